set_option maxRecDepth 100000
section MODEL6
variable {G : pb_G} {h : pb_H} {o : Nat} {A : Nat → Nat} {x : Nat → Int} {F : Nat → Nat → Int} {t : Nat}
theorem mo_beginHull (hW : mo_W h o A x F) (ok : ya_ok t (F 0)) (ht : t + 99 ≤ 200000) (h5 : 0 ≤ x 5 ∧ x 5 ≤ 8) : pb_Ctr G mX4_beginHull 8 0 0 [pb_r o] h (mo_Q o A h (some (pb_i (sp_hull (F 0)).2.1)) (mo_ox x (sp_hull (F 0)).1) (mo_oF x F (sp_hull (F 0)).1 (sp_hull (F 0)).2.2)) := by
  have hf : mo_Fr o A h h := mo_Fr.rf
  have hrg := sp_hull_rg ok
  refine pb_Ctr.of rfl rfl rfl tX4_beginHull_ok rfl ?_
  (try refine pb_Ex.run rfl ?_)
  refine pb_Ex.mc rfl rfl rfl rfl hW hf rfl rfl (mo_starts hW) (by omega) (by omega) (by omega) (fun h1 hW hf => ?_)
  (try refine pb_Ex.run rfl ?_)
  refine pb_Ex.mc rfl rfl rfl rfl hW hf rfl rfl (mo_hullIt hW (show ya_ok t _ from ok)) (by omega) (by omega) (by omega) (fun h1 hW hf => ?_)
  (try refine pb_Ex.run rfl ?_)
  refine pb_Ex.mc rfl rfl rfl rfl hW hf rfl rfl (mo_changed hW (by show 0 ≤ mo_S (va_up x 9 0) (sp_hull (F 0)).1 9 ∧ mo_S (va_up x 9 0) (sp_hull (F 0)).1 9 ≤ 3; rw [mo_S9]; exact hrg.1) (by show 0 ≤ mo_S (va_up x 9 0) (sp_hull (F 0)).1 5 ∧ mo_S (va_up x 9 0) (sp_hull (F 0)).1 5 ≤ 8; rw [mo_S5]; exact h5) (sp_hull (F 0)).2.1 hrg.2) (by omega) (by omega) (by omega) (fun h1 hW hf => ?_)
  refine pb_Ex.iret rfl rfl (by omega) (by omega) (⟨rfl, hW, hf⟩)
theorem mo_addFrame (hW : mo_W h o A x F) (ok : ya_ok t (F 0)) (ht : t + 99 ≤ 200000) (h5 : 0 ≤ x 5 ∧ x 5 ≤ 8) (z : Int) (l : Int) (r : Int) (hz : pb_rg z) (hl : pb_rg l) (hr : pb_rg r) : pb_Ctr G mX4_addFrame 8 0 0 [pb_r o, pb_i z, pb_i l, pb_i r] h (mo_Q o A h (some (pb_i (sp_frame (F 0) z l r).2.1)) (mo_ox x (sp_frame (F 0) z l r).1) (mo_oF x F (sp_frame (F 0) z l r).1 (sp_frame (F 0) z l r).2.2)) := by
  have hf : mo_Fr o A h h := mo_Fr.rf
  have hrg := sp_frame_rg ok z l r
  refine pb_Ctr.of rfl rfl rfl tX4_addFrame_ok rfl ?_
  (try refine pb_Ex.run rfl ?_)
  refine pb_Ex.mc rfl rfl rfl rfl hW hf rfl rfl (mo_starts hW) (by omega) (by omega) (by omega) (fun h1 hW hf => ?_)
  (try refine pb_Ex.run rfl ?_)
  refine pb_Ex.mc rfl rfl rfl rfl hW hf rfl rfl (mo_frameIt hW (show ya_ok t _ from ok) z l r hz hl hr) (by omega) (by omega) (by omega) (fun h1 hW hf => ?_)
  (try refine pb_Ex.run rfl ?_)
  refine pb_Ex.mc rfl rfl rfl rfl hW hf rfl rfl (mo_changed hW (by show 0 ≤ mo_S (va_up x 9 0) (sp_frame (F 0) z l r).1 9 ∧ mo_S (va_up x 9 0) (sp_frame (F 0) z l r).1 9 ≤ 3; rw [mo_S9]; exact hrg.1) (by show 0 ≤ mo_S (va_up x 9 0) (sp_frame (F 0) z l r).1 5 ∧ mo_S (va_up x 9 0) (sp_frame (F 0) z l r).1 5 ≤ 8; rw [mo_S5]; exact h5) (sp_frame (F 0) z l r).2.1 hrg.2) (by omega) (by omega) (by omega) (fun h1 hW hf => ?_)
  refine pb_Ex.iret rfl rfl (by omega) (by omega) (⟨rfl, hW, hf⟩)
theorem mo_mirror (hW : mo_W h o A x F) (ok : ya_ok t (F 0)) (ht : t + 99 ≤ 200000) (h5 : 0 ≤ x 5 ∧ x 5 ≤ 8) (z : Int) (hz : pb_rg z) : pb_Ctr G mX4_mirror 8 0 0 [pb_r o, pb_i z] h (mo_Q o A h (some (pb_i (sp_mirror (F 0) z).2.1)) (mo_ox x (sp_mirror (F 0) z).1) (mo_oF x F (sp_mirror (F 0) z).1 (sp_mirror (F 0) z).2.2)) := by
  have hf : mo_Fr o A h h := mo_Fr.rf
  have hrg := sp_mirror_rg ok z
  refine pb_Ctr.of rfl rfl rfl tX4_mirror_ok rfl ?_
  (try refine pb_Ex.run rfl ?_)
  refine pb_Ex.mc rfl rfl rfl rfl hW hf rfl rfl (mo_starts hW) (by omega) (by omega) (by omega) (fun h1 hW hf => ?_)
  (try refine pb_Ex.run rfl ?_)
  refine pb_Ex.mc rfl rfl rfl rfl hW hf rfl rfl (mo_mirrorIt hW (show ya_ok t _ from ok) z hz) (by omega) (by omega) (by omega) (fun h1 hW hf => ?_)
  (try refine pb_Ex.run rfl ?_)
  refine pb_Ex.mc rfl rfl rfl rfl hW hf rfl rfl (mo_changed hW (by show 0 ≤ mo_S (va_up x 9 0) (sp_mirror (F 0) z).1 9 ∧ mo_S (va_up x 9 0) (sp_mirror (F 0) z).1 9 ≤ 3; rw [mo_S9]; exact hrg.1) (by show 0 ≤ mo_S (va_up x 9 0) (sp_mirror (F 0) z).1 5 ∧ mo_S (va_up x 9 0) (sp_mirror (F 0) z).1 5 ≤ 8; rw [mo_S5]; exact h5) (sp_mirror (F 0) z).2.1 hrg.2) (by omega) (by omega) (by omega) (fun h1 hW hf => ?_)
  refine pb_Ex.iret rfl rfl (by omega) (by omega) (⟨rfl, hW, hf⟩)
theorem mo_setCargo (hW : mo_W h o A x F) (ok : ya_ok t (F 0)) (ht : t + 99 ≤ 200000) (h5 : 0 ≤ x 5 ∧ x 5 ≤ 8) (z : Int) (v : Int) (hz : pb_rg z) (hv : pb_rg v) : pb_Ctr G mX4_setCargo 8 0 0 [pb_r o, pb_i z, pb_i v] h (mo_Q o A h (some (pb_i (sp_cargo (F 0) z v).2.1)) (mo_ox x (sp_cargo (F 0) z v).1) (mo_oF x F (sp_cargo (F 0) z v).1 (sp_cargo (F 0) z v).2.2)) := by
  have hf : mo_Fr o A h h := mo_Fr.rf
  have hrg := sp_cargo_rg ok z v
  refine pb_Ctr.of rfl rfl rfl tX4_setCargo_ok rfl ?_
  (try refine pb_Ex.run rfl ?_)
  refine pb_Ex.mc rfl rfl rfl rfl hW hf rfl rfl (mo_starts hW) (by omega) (by omega) (by omega) (fun h1 hW hf => ?_)
  (try refine pb_Ex.run rfl ?_)
  refine pb_Ex.mc rfl rfl rfl rfl hW hf rfl rfl (mo_cargoIt hW (show ya_ok t _ from ok) z v hz hv) (by omega) (by omega) (by omega) (fun h1 hW hf => ?_)
  (try refine pb_Ex.run rfl ?_)
  refine pb_Ex.mc rfl rfl rfl rfl hW hf rfl rfl (mo_changed hW (by show 0 ≤ mo_S (va_up x 9 0) (sp_cargo (F 0) z v).1 9 ∧ mo_S (va_up x 9 0) (sp_cargo (F 0) z v).1 9 ≤ 3; rw [mo_S9]; exact hrg.1) (by show 0 ≤ mo_S (va_up x 9 0) (sp_cargo (F 0) z v).1 5 ∧ mo_S (va_up x 9 0) (sp_cargo (F 0) z v).1 5 ≤ 8; rw [mo_S5]; exact h5) (sp_cargo (F 0) z v).2.1 hrg.2) (by omega) (by omega) (by omega) (fun h1 hW hf => ?_)
  refine pb_Ex.iret rfl rfl (by omega) (by omega) (⟨rfl, hW, hf⟩)
theorem mo_caulk (hW : mo_W h o A x F) (ok : ya_ok t (F 0)) (ht : t + 99 ≤ 200000) (h5 : 0 ≤ x 5 ∧ x 5 ≤ 8) (z : Int) (y : Int) (hz : pb_rg z) (hy : pb_rg y) : pb_Ctr G mX4_caulk 8 0 0 [pb_r o, pb_i z, pb_i y] h (mo_Q o A h (some (pb_i (sp_caulk (F 0) z y).2.1)) (mo_ox x (sp_caulk (F 0) z y).1) (mo_oF x F (sp_caulk (F 0) z y).1 (sp_caulk (F 0) z y).2.2)) := by
  have hf : mo_Fr o A h h := mo_Fr.rf
  have hrg := sp_caulk_rg ok z y
  refine pb_Ctr.of rfl rfl rfl tX4_caulk_ok rfl ?_
  (try refine pb_Ex.run rfl ?_)
  refine pb_Ex.mc rfl rfl rfl rfl hW hf rfl rfl (mo_starts hW) (by omega) (by omega) (by omega) (fun h1 hW hf => ?_)
  (try refine pb_Ex.run rfl ?_)
  refine pb_Ex.mc rfl rfl rfl rfl hW hf rfl rfl (mo_caulkIt hW (show ya_ok t _ from ok) z y hz hy) (by omega) (by omega) (by omega) (fun h1 hW hf => ?_)
  (try refine pb_Ex.run rfl ?_)
  refine pb_Ex.mc rfl rfl rfl rfl hW hf rfl rfl (mo_changed hW (by show 0 ≤ mo_S (va_up x 9 0) (sp_caulk (F 0) z y).1 9 ∧ mo_S (va_up x 9 0) (sp_caulk (F 0) z y).1 9 ≤ 3; rw [mo_S9]; exact hrg.1) (by show 0 ≤ mo_S (va_up x 9 0) (sp_caulk (F 0) z y).1 5 ∧ mo_S (va_up x 9 0) (sp_caulk (F 0) z y).1 5 ≤ 8; rw [mo_S5]; exact h5) (sp_caulk (F 0) z y).2.1 hrg.2) (by omega) (by omega) (by omega) (fun h1 hW hf => ?_)
  refine pb_Ex.iret rfl rfl (by omega) (by omega) (⟨rfl, hW, hf⟩)
theorem mo_pump (hW : mo_W h o A x F) (ok : ya_ok t (F 0)) (ht : t + 99 ≤ 200000) (h5 : 0 ≤ x 5 ∧ x 5 ≤ 8) (z : Int) (v : Int) (hz : pb_rg z) (hv : pb_rg v) : pb_Ctr G mX4_pump 8 0 0 [pb_r o, pb_i z, pb_i v] h (mo_Q o A h (some (pb_i (sp_pump (F 0) z v).2.1)) (mo_ox x (sp_pump (F 0) z v).1) (mo_oF x F (sp_pump (F 0) z v).1 (sp_pump (F 0) z v).2.2)) := by
  have hf : mo_Fr o A h h := mo_Fr.rf
  have hrg := sp_pump_rg ok z v
  refine pb_Ctr.of rfl rfl rfl tX4_pump_ok rfl ?_
  (try refine pb_Ex.run rfl ?_)
  refine pb_Ex.mc rfl rfl rfl rfl hW hf rfl rfl (mo_starts hW) (by omega) (by omega) (by omega) (fun h1 hW hf => ?_)
  (try refine pb_Ex.run rfl ?_)
  refine pb_Ex.mc rfl rfl rfl rfl hW hf rfl rfl (mo_pumpIt hW (show ya_ok t _ from ok) z v hz hv) (by omega) (by omega) (by omega) (fun h1 hW hf => ?_)
  (try refine pb_Ex.run rfl ?_)
  refine pb_Ex.mc rfl rfl rfl rfl hW hf rfl rfl (mo_changed hW (by show 0 ≤ mo_S (va_up x 9 0) (sp_pump (F 0) z v).1 9 ∧ mo_S (va_up x 9 0) (sp_pump (F 0) z v).1 9 ≤ 3; rw [mo_S9]; exact hrg.1) (by show 0 ≤ mo_S (va_up x 9 0) (sp_pump (F 0) z v).1 5 ∧ mo_S (va_up x 9 0) (sp_pump (F 0) z v).1 5 ≤ 8; rw [mo_S5]; exact h5) (sp_pump (F 0) z v).2.1 hrg.2) (by omega) (by omega) (by omega) (fun h1 hW hf => ?_)
  refine pb_Ex.iret rfl rfl (by omega) (by omega) (⟨rfl, hW, hf⟩)
theorem mo_setTide (hW : mo_W h o A x F) (ok : ya_ok t (F 0)) (ht : t + 99 ≤ 200000) (h5 : 0 ≤ x 5 ∧ x 5 ≤ 8) (z : Int) (v : Int) (hz : pb_rg z) (hv : pb_rg v) : pb_Ctr G mX4_setTide 8 0 0 [pb_r o, pb_i z, pb_i v] h (mo_Q o A h (some (pb_i (sp_tide (F 0) z v).2.1)) (mo_ox x (sp_tide (F 0) z v).1) (mo_oF x F (sp_tide (F 0) z v).1 (sp_tide (F 0) z v).2.2)) := by
  have hf : mo_Fr o A h h := mo_Fr.rf
  have hrg := sp_tide_rg ok z v
  refine pb_Ctr.of rfl rfl rfl tX4_setTide_ok rfl ?_
  (try refine pb_Ex.run rfl ?_)
  refine pb_Ex.mc rfl rfl rfl rfl hW hf rfl rfl (mo_starts hW) (by omega) (by omega) (by omega) (fun h1 hW hf => ?_)
  (try refine pb_Ex.run rfl ?_)
  refine pb_Ex.mc rfl rfl rfl rfl hW hf rfl rfl (mo_tideIt hW z v hz hv) (by omega) (by omega) (by omega) (fun h1 hW hf => ?_)
  (try refine pb_Ex.run rfl ?_)
  refine pb_Ex.mc rfl rfl rfl rfl hW hf rfl rfl (mo_changed hW (by show 0 ≤ mo_S (va_up x 9 0) (sp_tide (F 0) z v).1 9 ∧ mo_S (va_up x 9 0) (sp_tide (F 0) z v).1 9 ≤ 3; rw [mo_S9]; exact hrg.1) (by show 0 ≤ mo_S (va_up x 9 0) (sp_tide (F 0) z v).1 5 ∧ mo_S (va_up x 9 0) (sp_tide (F 0) z v).1 5 ≤ 8; rw [mo_S5]; exact h5) (sp_tide (F 0) z v).2.1 hrg.2) (by omega) (by omega) (by omega) (fun h1 hW hf => ?_)
  refine pb_Ex.iret rfl rfl (by omega) (by omega) (⟨rfl, hW, hf⟩)
theorem mo_pass (hW : mo_W h o A x F) (ok : ya_ok t (F 0)) (ht : t + 99 ≤ 200000) (h5 : 0 ≤ x 5 ∧ x 5 ≤ 8) (v : Int) (hv : pb_rg v) : pb_Ctr G mX4_pass 8 0 0 [pb_r o, pb_i v] h (mo_Q o A h (some (pb_i (sp_pass (F 0) v).2.1)) (mo_ox x (sp_pass (F 0) v).1) (mo_oF x F (sp_pass (F 0) v).1 (sp_pass (F 0) v).2.2)) := by
  have hf : mo_Fr o A h h := mo_Fr.rf
  have hrg := sp_pass_rg ok ht v
  refine pb_Ctr.of rfl rfl rfl tX4_pass_ok rfl ?_
  (try refine pb_Ex.run rfl ?_)
  refine pb_Ex.mc rfl rfl rfl rfl hW hf rfl rfl (mo_starts hW) (by omega) (by omega) (by omega) (fun h1 hW hf => ?_)
  (try refine pb_Ex.run rfl ?_)
  refine pb_Ex.mc rfl rfl rfl rfl hW hf rfl rfl (mo_hoursIt hW (show ya_ok t _ from ok) ht v hv) (by omega) (by omega) (by omega) (fun h1 hW hf => ?_)
  (try refine pb_Ex.run rfl ?_)
  refine pb_Ex.mc rfl rfl rfl rfl hW hf rfl rfl (mo_changed hW (by show 0 ≤ mo_S (va_up x 9 0) (sp_pass (F 0) v).1 9 ∧ mo_S (va_up x 9 0) (sp_pass (F 0) v).1 9 ≤ 3; rw [mo_S9]; exact hrg.1) (by show 0 ≤ mo_S (va_up x 9 0) (sp_pass (F 0) v).1 5 ∧ mo_S (va_up x 9 0) (sp_pass (F 0) v).1 5 ≤ 8; rw [mo_S5]; exact h5) (sp_pass (F 0) v).2.1 hrg.2) (by omega) (by omega) (by omega) (fun h1 hW hf => ?_)
  refine pb_Ex.iret rfl rfl (by omega) (by omega) (⟨rfl, hW, hf⟩)
theorem mo_addOrder (hW : mo_W h o A x F) (ok : ya_ok t (F 0)) (ht : t + 99 ≤ 200000) (h5 : 0 ≤ x 5 ∧ x 5 ≤ 8) (a : Int) (b : Int) (d : Int) (ha : pb_rg a) (hb : pb_rg b) (hd : pb_rg d) : pb_Ctr G mX4_addOrder 8 0 0 [pb_r o, pb_i a, pb_i b, pb_i d] h (mo_Q o A h (some (pb_i (sp_order (F 0) a b d).2.1)) (mo_ox x (sp_order (F 0) a b d).1) (mo_oF x F (sp_order (F 0) a b d).1 (sp_order (F 0) a b d).2.2)) := by
  have hf : mo_Fr o A h h := mo_Fr.rf
  have hrg := sp_order_rg ok a b d
  refine pb_Ctr.of rfl rfl rfl tX4_addOrder_ok rfl ?_
  (try refine pb_Ex.run rfl ?_)
  refine pb_Ex.mc rfl rfl rfl rfl hW hf rfl rfl (mo_starts hW) (by omega) (by omega) (by omega) (fun h1 hW hf => ?_)
  (try refine pb_Ex.run rfl ?_)
  refine pb_Ex.mc rfl rfl rfl rfl hW hf rfl rfl (mo_orderIt hW (show ya_ok t _ from ok) a b d ha hb hd) (by omega) (by omega) (by omega) (fun h1 hW hf => ?_)
  (try refine pb_Ex.run rfl ?_)
  refine pb_Ex.mc rfl rfl rfl rfl hW hf rfl rfl (mo_changed hW (by show 0 ≤ mo_S (va_up x 9 0) (sp_order (F 0) a b d).1 9 ∧ mo_S (va_up x 9 0) (sp_order (F 0) a b d).1 9 ≤ 3; rw [mo_S9]; exact hrg.1) (by show 0 ≤ mo_S (va_up x 9 0) (sp_order (F 0) a b d).1 5 ∧ mo_S (va_up x 9 0) (sp_order (F 0) a b d).1 5 ≤ 8; rw [mo_S5]; exact h5) (sp_order (F 0) a b d).2.1 hrg.2) (by omega) (by omega) (by omega) (fun h1 hW hf => ?_)
  refine pb_Ex.iret rfl rfl (by omega) (by omega) (⟨rfl, hW, hf⟩)
theorem mo_deliver (hW : mo_W h o A x F) (ok : ya_ok t (F 0)) (ht : t + 99 ≤ 200000) (h5 : 0 ≤ x 5 ∧ x 5 ≤ 8) (a : Int) (z : Int) (ha : pb_rg a) (hz : pb_rg z) : pb_Ctr G mX4_deliver 8 0 0 [pb_r o, pb_i a, pb_i z] h (mo_Q o A h (some (pb_i (sp_deliver (F 0) a z).2.1)) (mo_ox x (sp_deliver (F 0) a z).1) (mo_oF x F (sp_deliver (F 0) a z).1 (sp_deliver (F 0) a z).2.2)) := by
  have hf : mo_Fr o A h h := mo_Fr.rf
  have hrg := sp_deliver_rg ok a z
  refine pb_Ctr.of rfl rfl rfl tX4_deliver_ok rfl ?_
  (try refine pb_Ex.run rfl ?_)
  refine pb_Ex.mc rfl rfl rfl rfl hW hf rfl rfl (mo_starts hW) (by omega) (by omega) (by omega) (fun h1 hW hf => ?_)
  (try refine pb_Ex.run rfl ?_)
  refine pb_Ex.mc rfl rfl rfl rfl hW hf rfl rfl (mo_deliverIt hW (show ya_ok t _ from ok) a z ha hz) (by omega) (by omega) (by omega) (fun h1 hW hf => ?_)
  (try refine pb_Ex.run rfl ?_)
  refine pb_Ex.mc rfl rfl rfl rfl hW hf rfl rfl (mo_changed hW (by show 0 ≤ mo_S (va_up x 9 0) (sp_deliver (F 0) a z).1 9 ∧ mo_S (va_up x 9 0) (sp_deliver (F 0) a z).1 9 ≤ 3; rw [mo_S9]; exact hrg.1) (by show 0 ≤ mo_S (va_up x 9 0) (sp_deliver (F 0) a z).1 5 ∧ mo_S (va_up x 9 0) (sp_deliver (F 0) a z).1 5 ≤ 8; rw [mo_S5]; exact h5) (sp_deliver (F 0) a z).2.1 hrg.2) (by omega) (by omega) (by omega) (fun h1 hW hf => ?_)
  refine pb_Ex.iret rfl rfl (by omega) (by omega) (⟨rfl, hW, hf⟩)
theorem mo_setSlip (hW : mo_W h o A x F) (ok : ya_ok t (F 0)) (h5 : 0 ≤ x 5 ∧ x 5 ≤ 8) (z v : Int) (hz : pb_rg z) (hv : pb_rg v) : pb_Ctr G mX4_setSlip 8 0 0 [pb_r o, pb_i z, pb_i v] h (mo_Q o A h (some (pb_i (sp_slip (F 0) z v).2.1)) (mo_ox x (sp_slip (F 0) z v).1) (mo_oF x F (sp_slip (F 0) z v).1 (sp_slip (F 0) z v).2.2)) := by
  have hf : mo_Fr o A h h := mo_Fr.rf
  have hrg := sp_slip_rg ok z v
  unfold sp_slip at hrg ⊢
  have bad : mo_ox x 1 = va_up (va_up x 9 0) 9 1 ∧ mo_oF x F 1 (F 0) = va_up F 1 (mo_cp (F 0) (F 1) 213) := by
    refine ⟨rfl, ?_⟩
    show va_up (va_up F 1 (mo_cp (F 0) (F 1) 213)) 0 (F 0) = _
    exact va_upid (va_up F 1 (mo_cp (F 0) (F 1) 213)) 0
  refine pb_Ctr.of rfl rfl rfl tX4_setSlip_ok rfl ?_
  (try refine pb_Ex.run rfl ?_)
  refine pb_Ex.mc rfl rfl rfl rfl hW hf rfl rfl (mo_starts hW) (by omega) (by omega) (by omega) (fun h1 hW hf => ?_)
  (try refine pb_Ex.run rfl ?_)
  refine pb_Ex.i2l rfl (by omega) ?_
  (try refine pb_Ex.run rfl ?_)
  refine pb_Ex.ldc2 rfl rfl rfl ?_
  (try refine pb_Ex.run rfl ?_)
  refine pb_Ex.pS rfl rfl rfl rfl (mo_inn z 0 3 (by omega) (by omega) (by omega)) (by omega) (by omega) (by omega) ?_
  (try refine pb_Ex.run rfl ?_)
  unfold mo_in
  by_cases c : 0 ≤ z ∧ z ≤ 3
  · rw [if_pos c]
    obtain ⟨k, rfl⟩ := Int.eq_ofNat_of_zero_le c.1
    rw [Int.toNat_natCast] at hrg ⊢
    refine pb_Ex.ifF rfl (by omega) (by first | decide | (simp only [pb_cmp]; omega) | simp [pb_cmp]) ?_
    (try refine pb_Ex.run rfl ?_)
    refine pb_Ex.i2l rfl (by omega) ?_
    (try refine pb_Ex.run rfl ?_)
    refine pb_Ex.ldc2 rfl rfl rfl ?_
    (try refine pb_Ex.run rfl ?_)
    refine pb_Ex.pS rfl rfl rfl rfl (mo_inn v 0 8 (by omega) (by omega) (by omega)) (by omega) (by omega) (by omega) ?_
    (try refine pb_Ex.run rfl ?_)
    unfold mo_in
    by_cases c2 : 0 ≤ v ∧ v ≤ 8
    · rw [if_neg (by omega)] at hrg
      rw [if_pos c2, if_neg (by omega)]
      refine pb_Ex.ifT rfl (by omega) (by first | decide | (simp only [pb_cmp]; omega) | simp [pb_cmp]) ?_
      (try refine pb_Ex.run rfl ?_)
      refine pb_Ex.getf rfl rfl hW.1 rfl ?_
      (try refine pb_Ex.run rfl ?_)
      refine pb_Ex.iat (17 + k) rfl hW.2.1 (by omega) (by omega) ?_
      (try refine pb_Ex.run rfl ?_)
      refine pb_Ex.getf rfl rfl hW.1 rfl ?_
      (try refine pb_Ex.run rfl ?_)
      refine pb_Ex.mst (0) (17 + k) rfl hW hf (by decide) rfl (by omega) (by first | decide | (show _ < 213; omega) | (show _ < 1704; omega) | (show _ < 244; omega) | (show _ < 100; omega) | (show _ < 60; omega) | (show _ < 8; omega)) (fun h1 hW hf => ?_)
      (try refine pb_Ex.run rfl ?_)
      refine pb_Ex.mc rfl rfl rfl rfl hW hf rfl rfl (mo_changed hW (by show 0 ≤ (0 : Int) ∧ (0 : Int) ≤ 3; omega) h5 (F 0 (17 + k)) hrg.2) (by omega) (by omega) (by omega) (fun h1 hW hf => ?_)
      refine pb_Ex.iret rfl rfl (by omega) (by omega) (⟨rfl, hW, hf⟩)
    · rw [if_neg c2, if_pos (by omega)]
      refine pb_Ex.ifF rfl (by omega) (by first | decide | (simp only [pb_cmp]; omega) | simp [pb_cmp]) ?_
      (try refine pb_Ex.run rfl ?_)
      show pb_Ex _ _ _ _ _ (mo_Q o A h _ (mo_ox x 1) (mo_oF x F 1 (F 0))) _ _ _ _ _ _
      rw [bad.1, bad.2]
      refine pb_Ex.mc rfl rfl rfl rfl hW hf rfl rfl (mo_throwing hW (1)) (by omega) (by omega) (by omega) (fun h1 hW hf => ?_)
      (try refine pb_Ex.run rfl ?_)
      refine pb_Ex.iret rfl rfl (by omega) (by omega) ⟨rfl, hW, hf⟩
  · rw [if_neg c, if_pos (by omega)]
    refine pb_Ex.ifT rfl (by omega) (by first | decide | (simp only [pb_cmp]; omega) | simp [pb_cmp]) ?_
    (try refine pb_Ex.run rfl ?_)
    show pb_Ex _ _ _ _ _ (mo_Q o A h _ (mo_ox x 1) (mo_oF x F 1 (F 0))) _ _ _ _ _ _
    rw [bad.1, bad.2]
    refine pb_Ex.mc rfl rfl rfl rfl hW hf rfl rfl (mo_throwing hW (1)) (by omega) (by omega) (by omega) (fun h1 hW hf => ?_)
    (try refine pb_Ex.run rfl ?_)
    refine pb_Ex.iret rfl rfl (by omega) (by omega) ⟨rfl, hW, hf⟩
/-- the model's numbers behind a launch: the reason w is noted, 0 none -/
def mo_lx (x : Nat → Int) (w c : Int) : Nat → Int := mo_S (if w = 0 then va_up x 9 0 else va_up (va_up x 9 0) 8 w) c
theorem mo_launch (hW : mo_W h o A x F) (ok : ya_ok t (F 0)) (h5 : 0 ≤ x 5 ∧ x 5 ≤ 8) (z : Int) (hz : pb_rg z) : pb_Ctr G mX4_launch 8 0 0 [pb_r o, pb_i z] h (mo_Q o A h (some (pb_i (sp_launch (F 0) z).2.1)) (mo_cx (mo_lx x (sp_launch (F 0) z).2.2.2 (sp_launch (F 0) z).1)) (mo_cF (mo_lx x (sp_launch (F 0) z).2.2.2 (sp_launch (F 0) z).1) (va_up (va_up F 1 (mo_cp (F 0) (F 1) 213)) 0 (sp_launch (F 0) z).2.2.1))) := by
  have hf : mo_Fr o A h h := mo_Fr.rf
  have hrg := sp_launch_rg ok z
  have e9 : mo_lx x (sp_launch (F 0) z).2.2.2 (sp_launch (F 0) z).1 9 = (sp_launch (F 0) z).1 := by
    unfold mo_lx mo_S
    split
    · next h0 =>
      rw [h0]
      split
      · exact va_upS _ _ _
      · rw [va_upN _ _ (by omega), va_upS]
    · exact va_upS _ _ _
  have e5 : mo_lx x (sp_launch (F 0) z).2.2.2 (sp_launch (F 0) z).1 5 = x 5 := by
    unfold mo_lx mo_S
    split
    · split
      · exact va_upN _ _ (by omega)
      · rw [va_upN _ _ (by omega), va_upN _ _ (by omega)]
    · rw [va_upN _ _ (by omega)]
      split
      · exact va_upN _ _ (by omega)
      · rw [va_upN _ _ (by omega), va_upN _ _ (by omega)]
  refine pb_Ctr.of rfl rfl rfl tX4_launch_ok rfl ?_
  (try refine pb_Ex.run rfl ?_)
  refine pb_Ex.mc rfl rfl rfl rfl hW hf rfl rfl (mo_starts hW) (by omega) (by omega) (by omega) (fun h1 hW hf => ?_)
  (try refine pb_Ex.run rfl ?_)
  refine pb_Ex.mc rfl rfl rfl rfl hW hf rfl rfl (mo_launchIt hW (show ya_ok t _ from ok) z hz) (by omega) (by omega) (by omega) (fun h1 hW hf => ?_)
  (try refine pb_Ex.run rfl ?_)
  refine pb_Ex.mc rfl rfl rfl rfl hW hf rfl rfl (mo_changed hW (by show 0 ≤ mo_lx x (sp_launch (F 0) z).2.2.2 (sp_launch (F 0) z).1 9 ∧ mo_lx x (sp_launch (F 0) z).2.2.2 (sp_launch (F 0) z).1 9 ≤ 3; rw [e9]; exact hrg.1) (by show 0 ≤ mo_lx x (sp_launch (F 0) z).2.2.2 (sp_launch (F 0) z).1 5 ∧ mo_lx x (sp_launch (F 0) z).2.2.2 (sp_launch (F 0) z).1 5 ≤ 8; rw [e5]; exact h5) (sp_launch (F 0) z).2.1 hrg.2.1) (by omega) (by omega) (by omega) (fun h1 hW hf => ?_)
  refine pb_Ex.iret rfl rfl (by omega) (by omega) (⟨rfl, hW, hf⟩)
end MODEL6
