set_option maxRecDepth 100000
section MODEL16
variable {G : pb_G} {h : pb_H} {o : Nat} {A : Nat → Nat} {x : Nat → Int} {F : Nat → Nat → Int} {t : Nat} {g : Nat → Int} {N : Nat}
theorem mo_does0 (hW : mo_W h o A x F) (ok : ya_ok t (F 0)) (ht : t + 99 ≤ 200000) (pos : Nat) (hpos : pos + 3 < 244) (hkv : F 19 pos = (0 : Nat)) (c19 : pa_cok (F 19)) : pb_Ctr G mX4_does 8 0 0 [pb_r o, pb_i pos] h (mo_Q o A h none (mo_S (if (sp_op (F 0) 0 (F 19 (pos + 1)) (F 19 (pos + 2)) (F 19 (pos + 3))).2.2 = 0 then x else va_up x 8 (sp_op (F 0) 0 (F 19 (pos + 1)) (F 19 (pos + 2)) (F 19 (pos + 3))).2.2) (sp_op (F 0) 0 (F 19 (pos + 1)) (F 19 (pos + 2)) (F 19 (pos + 3))).1) (va_up F 0 (sp_op (F 0) 0 (F 19 (pos + 1)) (F 19 (pos + 2)) (F 19 (pos + 3))).2.1)) := by
  have hf : mo_Fr o A h h := mo_Fr.rf
  have r1 := c19 (pos + 1) (by omega)
  have r2 := c19 (pos + 2) (by omega)
  have r3 := c19 (pos + 3) (by omega)
  refine pb_Ctr.of rfl rfl rfl tX4_does_ok rfl ?_
  (try refine pb_Ex.run rfl ?_)
  refine pb_Ex.getf (v := pb_r (A 19)) rfl rfl hW.1 rfl ?_
  (try refine pb_Ex.run rfl ?_)
  refine pb_Ex.iat ((pos + 1)) rfl hW.a19 (by omega) (by omega) ?_
  (try refine pb_Ex.run rfl ?_)
  refine pb_Ex.getf (v := pb_r (A 19)) rfl rfl hW.1 rfl ?_
  (try refine pb_Ex.run rfl ?_)
  refine pb_Ex.iat ((pos + 2)) rfl hW.a19 (by omega) (by omega) ?_
  (try refine pb_Ex.run rfl ?_)
  refine pb_Ex.getf (v := pb_r (A 19)) rfl rfl hW.1 rfl ?_
  (try refine pb_Ex.run rfl ?_)
  refine pb_Ex.iat ((pos + 3)) rfl hW.a19 (by omega) (by omega) ?_
  (try refine pb_Ex.run rfl ?_)
  refine pb_Ex.getf (v := pb_r (A 19)) rfl rfl hW.1 rfl ?_
  (try refine pb_Ex.run rfl ?_)
  refine pb_Ex.iat (pos) rfl hW.a19 (by omega) (by omega) ?_
  (try refine pb_Ex.run rfl ?_)
  rw [hkv]
  refine pb_Ex.tswI 88 dX4_does_34 (by omega) (by omega) (by omega) rfl (by decide) ?_
  refine pb_Ex.run rfl ?_
  refine pb_Ex.mc rfl rfl rfl rfl hW hf rfl rfl (mo_hullIt hW ok) (by omega) (by omega) (by omega) (fun h1 hW hf => ?_)
  (try refine pb_Ex.run rfl ?_)
  refine pb_Ex.vret rfl rfl (by omega) (by omega) (⟨rfl, hW, hf⟩)
theorem mo_does1 (hW : mo_W h o A x F) (ok : ya_ok t (F 0)) (ht : t + 99 ≤ 200000) (pos : Nat) (hpos : pos + 3 < 244) (hkv : F 19 pos = (1 : Nat)) (c19 : pa_cok (F 19)) : pb_Ctr G mX4_does 8 0 0 [pb_r o, pb_i pos] h (mo_Q o A h none (mo_S (if (sp_op (F 0) 1 (F 19 (pos + 1)) (F 19 (pos + 2)) (F 19 (pos + 3))).2.2 = 0 then x else va_up x 8 (sp_op (F 0) 1 (F 19 (pos + 1)) (F 19 (pos + 2)) (F 19 (pos + 3))).2.2) (sp_op (F 0) 1 (F 19 (pos + 1)) (F 19 (pos + 2)) (F 19 (pos + 3))).1) (va_up F 0 (sp_op (F 0) 1 (F 19 (pos + 1)) (F 19 (pos + 2)) (F 19 (pos + 3))).2.1)) := by
  have hf : mo_Fr o A h h := mo_Fr.rf
  have r1 := c19 (pos + 1) (by omega)
  have r2 := c19 (pos + 2) (by omega)
  have r3 := c19 (pos + 3) (by omega)
  refine pb_Ctr.of rfl rfl rfl tX4_does_ok rfl ?_
  (try refine pb_Ex.run rfl ?_)
  refine pb_Ex.getf (v := pb_r (A 19)) rfl rfl hW.1 rfl ?_
  (try refine pb_Ex.run rfl ?_)
  refine pb_Ex.iat ((pos + 1)) rfl hW.a19 (by omega) (by omega) ?_
  (try refine pb_Ex.run rfl ?_)
  refine pb_Ex.getf (v := pb_r (A 19)) rfl rfl hW.1 rfl ?_
  (try refine pb_Ex.run rfl ?_)
  refine pb_Ex.iat ((pos + 2)) rfl hW.a19 (by omega) (by omega) ?_
  (try refine pb_Ex.run rfl ?_)
  refine pb_Ex.getf (v := pb_r (A 19)) rfl rfl hW.1 rfl ?_
  (try refine pb_Ex.run rfl ?_)
  refine pb_Ex.iat ((pos + 3)) rfl hW.a19 (by omega) (by omega) ?_
  (try refine pb_Ex.run rfl ?_)
  refine pb_Ex.getf (v := pb_r (A 19)) rfl rfl hW.1 rfl ?_
  (try refine pb_Ex.run rfl ?_)
  refine pb_Ex.iat (pos) rfl hW.a19 (by omega) (by omega) ?_
  (try refine pb_Ex.run rfl ?_)
  rw [hkv]
  refine pb_Ex.tswI 96 dX4_does_34 (by omega) (by omega) (by omega) rfl (by decide) ?_
  refine pb_Ex.run rfl ?_
  refine pb_Ex.mc rfl rfl rfl rfl hW hf rfl rfl (mo_frameIt hW ok _ _ _ (by omega) (by omega) (by omega)) (by omega) (by omega) (by omega) (fun h1 hW hf => ?_)
  (try refine pb_Ex.run rfl ?_)
  refine pb_Ex.vret rfl rfl (by omega) (by omega) (⟨rfl, hW, hf⟩)
theorem mo_does2 (hW : mo_W h o A x F) (ok : ya_ok t (F 0)) (ht : t + 99 ≤ 200000) (pos : Nat) (hpos : pos + 3 < 244) (hkv : F 19 pos = (2 : Nat)) (c19 : pa_cok (F 19)) : pb_Ctr G mX4_does 8 0 0 [pb_r o, pb_i pos] h (mo_Q o A h none (mo_S (if (sp_op (F 0) 2 (F 19 (pos + 1)) (F 19 (pos + 2)) (F 19 (pos + 3))).2.2 = 0 then x else va_up x 8 (sp_op (F 0) 2 (F 19 (pos + 1)) (F 19 (pos + 2)) (F 19 (pos + 3))).2.2) (sp_op (F 0) 2 (F 19 (pos + 1)) (F 19 (pos + 2)) (F 19 (pos + 3))).1) (va_up F 0 (sp_op (F 0) 2 (F 19 (pos + 1)) (F 19 (pos + 2)) (F 19 (pos + 3))).2.1)) := by
  have hf : mo_Fr o A h h := mo_Fr.rf
  have r1 := c19 (pos + 1) (by omega)
  have r2 := c19 (pos + 2) (by omega)
  have r3 := c19 (pos + 3) (by omega)
  refine pb_Ctr.of rfl rfl rfl tX4_does_ok rfl ?_
  (try refine pb_Ex.run rfl ?_)
  refine pb_Ex.getf (v := pb_r (A 19)) rfl rfl hW.1 rfl ?_
  (try refine pb_Ex.run rfl ?_)
  refine pb_Ex.iat ((pos + 1)) rfl hW.a19 (by omega) (by omega) ?_
  (try refine pb_Ex.run rfl ?_)
  refine pb_Ex.getf (v := pb_r (A 19)) rfl rfl hW.1 rfl ?_
  (try refine pb_Ex.run rfl ?_)
  refine pb_Ex.iat ((pos + 2)) rfl hW.a19 (by omega) (by omega) ?_
  (try refine pb_Ex.run rfl ?_)
  refine pb_Ex.getf (v := pb_r (A 19)) rfl rfl hW.1 rfl ?_
  (try refine pb_Ex.run rfl ?_)
  refine pb_Ex.iat ((pos + 3)) rfl hW.a19 (by omega) (by omega) ?_
  (try refine pb_Ex.run rfl ?_)
  refine pb_Ex.getf (v := pb_r (A 19)) rfl rfl hW.1 rfl ?_
  (try refine pb_Ex.run rfl ?_)
  refine pb_Ex.iat (pos) rfl hW.a19 (by omega) (by omega) ?_
  (try refine pb_Ex.run rfl ?_)
  rw [hkv]
  refine pb_Ex.tswI 108 dX4_does_34 (by omega) (by omega) (by omega) rfl (by decide) ?_
  refine pb_Ex.run rfl ?_
  refine pb_Ex.mc rfl rfl rfl rfl hW hf rfl rfl (mo_mirrorIt hW ok _ (by omega)) (by omega) (by omega) (by omega) (fun h1 hW hf => ?_)
  (try refine pb_Ex.run rfl ?_)
  refine pb_Ex.vret rfl rfl (by omega) (by omega) (⟨rfl, hW, hf⟩)
theorem mo_does3 (hW : mo_W h o A x F) (ok : ya_ok t (F 0)) (ht : t + 99 ≤ 200000) (pos : Nat) (hpos : pos + 3 < 244) (hkv : F 19 pos = (3 : Nat)) (c19 : pa_cok (F 19)) : pb_Ctr G mX4_does 8 0 0 [pb_r o, pb_i pos] h (mo_Q o A h none (mo_S (if (sp_op (F 0) 3 (F 19 (pos + 1)) (F 19 (pos + 2)) (F 19 (pos + 3))).2.2 = 0 then x else va_up x 8 (sp_op (F 0) 3 (F 19 (pos + 1)) (F 19 (pos + 2)) (F 19 (pos + 3))).2.2) (sp_op (F 0) 3 (F 19 (pos + 1)) (F 19 (pos + 2)) (F 19 (pos + 3))).1) (va_up F 0 (sp_op (F 0) 3 (F 19 (pos + 1)) (F 19 (pos + 2)) (F 19 (pos + 3))).2.1)) := by
  have hf : mo_Fr o A h h := mo_Fr.rf
  have r1 := c19 (pos + 1) (by omega)
  have r2 := c19 (pos + 2) (by omega)
  have r3 := c19 (pos + 3) (by omega)
  refine pb_Ctr.of rfl rfl rfl tX4_does_ok rfl ?_
  (try refine pb_Ex.run rfl ?_)
  refine pb_Ex.getf (v := pb_r (A 19)) rfl rfl hW.1 rfl ?_
  (try refine pb_Ex.run rfl ?_)
  refine pb_Ex.iat ((pos + 1)) rfl hW.a19 (by omega) (by omega) ?_
  (try refine pb_Ex.run rfl ?_)
  refine pb_Ex.getf (v := pb_r (A 19)) rfl rfl hW.1 rfl ?_
  (try refine pb_Ex.run rfl ?_)
  refine pb_Ex.iat ((pos + 2)) rfl hW.a19 (by omega) (by omega) ?_
  (try refine pb_Ex.run rfl ?_)
  refine pb_Ex.getf (v := pb_r (A 19)) rfl rfl hW.1 rfl ?_
  (try refine pb_Ex.run rfl ?_)
  refine pb_Ex.iat ((pos + 3)) rfl hW.a19 (by omega) (by omega) ?_
  (try refine pb_Ex.run rfl ?_)
  refine pb_Ex.getf (v := pb_r (A 19)) rfl rfl hW.1 rfl ?_
  (try refine pb_Ex.run rfl ?_)
  refine pb_Ex.iat (pos) rfl hW.a19 (by omega) (by omega) ?_
  (try refine pb_Ex.run rfl ?_)
  rw [hkv]
  refine pb_Ex.tswI 117 dX4_does_34 (by omega) (by omega) (by omega) rfl (by decide) ?_
  refine pb_Ex.run rfl ?_
  refine pb_Ex.mc rfl rfl rfl rfl hW hf rfl rfl (mo_cargoIt hW ok _ _ (by omega) (by omega)) (by omega) (by omega) (by omega) (fun h1 hW hf => ?_)
  (try refine pb_Ex.run rfl ?_)
  refine pb_Ex.vret rfl rfl (by omega) (by omega) (⟨rfl, hW, hf⟩)
theorem mo_does4 (hW : mo_W h o A x F) (ok : ya_ok t (F 0)) (ht : t + 99 ≤ 200000) (pos : Nat) (hpos : pos + 3 < 244) (hkv : F 19 pos = (4 : Nat)) (c19 : pa_cok (F 19)) : pb_Ctr G mX4_does 8 0 0 [pb_r o, pb_i pos] h (mo_Q o A h none (mo_S (if (sp_op (F 0) 4 (F 19 (pos + 1)) (F 19 (pos + 2)) (F 19 (pos + 3))).2.2 = 0 then x else va_up x 8 (sp_op (F 0) 4 (F 19 (pos + 1)) (F 19 (pos + 2)) (F 19 (pos + 3))).2.2) (sp_op (F 0) 4 (F 19 (pos + 1)) (F 19 (pos + 2)) (F 19 (pos + 3))).1) (va_up F 0 (sp_op (F 0) 4 (F 19 (pos + 1)) (F 19 (pos + 2)) (F 19 (pos + 3))).2.1)) := by
  have hf : mo_Fr o A h h := mo_Fr.rf
  have r1 := c19 (pos + 1) (by omega)
  have r2 := c19 (pos + 2) (by omega)
  have r3 := c19 (pos + 3) (by omega)
  refine pb_Ctr.of rfl rfl rfl tX4_does_ok rfl ?_
  (try refine pb_Ex.run rfl ?_)
  refine pb_Ex.getf (v := pb_r (A 19)) rfl rfl hW.1 rfl ?_
  (try refine pb_Ex.run rfl ?_)
  refine pb_Ex.iat ((pos + 1)) rfl hW.a19 (by omega) (by omega) ?_
  (try refine pb_Ex.run rfl ?_)
  refine pb_Ex.getf (v := pb_r (A 19)) rfl rfl hW.1 rfl ?_
  (try refine pb_Ex.run rfl ?_)
  refine pb_Ex.iat ((pos + 2)) rfl hW.a19 (by omega) (by omega) ?_
  (try refine pb_Ex.run rfl ?_)
  refine pb_Ex.getf (v := pb_r (A 19)) rfl rfl hW.1 rfl ?_
  (try refine pb_Ex.run rfl ?_)
  refine pb_Ex.iat ((pos + 3)) rfl hW.a19 (by omega) (by omega) ?_
  (try refine pb_Ex.run rfl ?_)
  refine pb_Ex.getf (v := pb_r (A 19)) rfl rfl hW.1 rfl ?_
  (try refine pb_Ex.run rfl ?_)
  refine pb_Ex.iat (pos) rfl hW.a19 (by omega) (by omega) ?_
  (try refine pb_Ex.run rfl ?_)
  rw [hkv]
  refine pb_Ex.tswI 127 dX4_does_34 (by omega) (by omega) (by omega) rfl (by decide) ?_
  refine pb_Ex.run rfl ?_
  refine pb_Ex.mc rfl rfl rfl rfl hW hf rfl rfl (mo_launchIt hW ok _ (by omega)) (by omega) (by omega) (by omega) (fun h1 hW hf => ?_)
  (try refine pb_Ex.run rfl ?_)
  refine pb_Ex.vret rfl rfl (by omega) (by omega) (⟨rfl, hW, hf⟩)
theorem mo_does5 (hW : mo_W h o A x F) (ok : ya_ok t (F 0)) (ht : t + 99 ≤ 200000) (pos : Nat) (hpos : pos + 3 < 244) (hkv : F 19 pos = (5 : Nat)) (c19 : pa_cok (F 19)) : pb_Ctr G mX4_does 8 0 0 [pb_r o, pb_i pos] h (mo_Q o A h none (mo_S (if (sp_op (F 0) 5 (F 19 (pos + 1)) (F 19 (pos + 2)) (F 19 (pos + 3))).2.2 = 0 then x else va_up x 8 (sp_op (F 0) 5 (F 19 (pos + 1)) (F 19 (pos + 2)) (F 19 (pos + 3))).2.2) (sp_op (F 0) 5 (F 19 (pos + 1)) (F 19 (pos + 2)) (F 19 (pos + 3))).1) (va_up F 0 (sp_op (F 0) 5 (F 19 (pos + 1)) (F 19 (pos + 2)) (F 19 (pos + 3))).2.1)) := by
  have hf : mo_Fr o A h h := mo_Fr.rf
  have r1 := c19 (pos + 1) (by omega)
  have r2 := c19 (pos + 2) (by omega)
  have r3 := c19 (pos + 3) (by omega)
  refine pb_Ctr.of rfl rfl rfl tX4_does_ok rfl ?_
  (try refine pb_Ex.run rfl ?_)
  refine pb_Ex.getf (v := pb_r (A 19)) rfl rfl hW.1 rfl ?_
  (try refine pb_Ex.run rfl ?_)
  refine pb_Ex.iat ((pos + 1)) rfl hW.a19 (by omega) (by omega) ?_
  (try refine pb_Ex.run rfl ?_)
  refine pb_Ex.getf (v := pb_r (A 19)) rfl rfl hW.1 rfl ?_
  (try refine pb_Ex.run rfl ?_)
  refine pb_Ex.iat ((pos + 2)) rfl hW.a19 (by omega) (by omega) ?_
  (try refine pb_Ex.run rfl ?_)
  refine pb_Ex.getf (v := pb_r (A 19)) rfl rfl hW.1 rfl ?_
  (try refine pb_Ex.run rfl ?_)
  refine pb_Ex.iat ((pos + 3)) rfl hW.a19 (by omega) (by omega) ?_
  (try refine pb_Ex.run rfl ?_)
  refine pb_Ex.getf (v := pb_r (A 19)) rfl rfl hW.1 rfl ?_
  (try refine pb_Ex.run rfl ?_)
  refine pb_Ex.iat (pos) rfl hW.a19 (by omega) (by omega) ?_
  (try refine pb_Ex.run rfl ?_)
  rw [hkv]
  refine pb_Ex.tswI 136 dX4_does_34 (by omega) (by omega) (by omega) rfl (by decide) ?_
  refine pb_Ex.run rfl ?_
  refine pb_Ex.mc rfl rfl rfl rfl hW hf rfl rfl (mo_caulkIt hW ok _ _ (by omega) (by omega)) (by omega) (by omega) (by omega) (fun h1 hW hf => ?_)
  (try refine pb_Ex.run rfl ?_)
  refine pb_Ex.vret rfl rfl (by omega) (by omega) (⟨rfl, hW, hf⟩)
theorem mo_does6 (hW : mo_W h o A x F) (ok : ya_ok t (F 0)) (ht : t + 99 ≤ 200000) (pos : Nat) (hpos : pos + 3 < 244) (hkv : F 19 pos = (6 : Nat)) (c19 : pa_cok (F 19)) : pb_Ctr G mX4_does 8 0 0 [pb_r o, pb_i pos] h (mo_Q o A h none (mo_S (if (sp_op (F 0) 6 (F 19 (pos + 1)) (F 19 (pos + 2)) (F 19 (pos + 3))).2.2 = 0 then x else va_up x 8 (sp_op (F 0) 6 (F 19 (pos + 1)) (F 19 (pos + 2)) (F 19 (pos + 3))).2.2) (sp_op (F 0) 6 (F 19 (pos + 1)) (F 19 (pos + 2)) (F 19 (pos + 3))).1) (va_up F 0 (sp_op (F 0) 6 (F 19 (pos + 1)) (F 19 (pos + 2)) (F 19 (pos + 3))).2.1)) := by
  have hf : mo_Fr o A h h := mo_Fr.rf
  have r1 := c19 (pos + 1) (by omega)
  have r2 := c19 (pos + 2) (by omega)
  have r3 := c19 (pos + 3) (by omega)
  refine pb_Ctr.of rfl rfl rfl tX4_does_ok rfl ?_
  (try refine pb_Ex.run rfl ?_)
  refine pb_Ex.getf (v := pb_r (A 19)) rfl rfl hW.1 rfl ?_
  (try refine pb_Ex.run rfl ?_)
  refine pb_Ex.iat ((pos + 1)) rfl hW.a19 (by omega) (by omega) ?_
  (try refine pb_Ex.run rfl ?_)
  refine pb_Ex.getf (v := pb_r (A 19)) rfl rfl hW.1 rfl ?_
  (try refine pb_Ex.run rfl ?_)
  refine pb_Ex.iat ((pos + 2)) rfl hW.a19 (by omega) (by omega) ?_
  (try refine pb_Ex.run rfl ?_)
  refine pb_Ex.getf (v := pb_r (A 19)) rfl rfl hW.1 rfl ?_
  (try refine pb_Ex.run rfl ?_)
  refine pb_Ex.iat ((pos + 3)) rfl hW.a19 (by omega) (by omega) ?_
  (try refine pb_Ex.run rfl ?_)
  refine pb_Ex.getf (v := pb_r (A 19)) rfl rfl hW.1 rfl ?_
  (try refine pb_Ex.run rfl ?_)
  refine pb_Ex.iat (pos) rfl hW.a19 (by omega) (by omega) ?_
  (try refine pb_Ex.run rfl ?_)
  rw [hkv]
  refine pb_Ex.tswI 146 dX4_does_34 (by omega) (by omega) (by omega) rfl (by decide) ?_
  refine pb_Ex.run rfl ?_
  refine pb_Ex.mc rfl rfl rfl rfl hW hf rfl rfl (mo_pumpIt hW ok _ _ (by omega) (by omega)) (by omega) (by omega) (by omega) (fun h1 hW hf => ?_)
  (try refine pb_Ex.run rfl ?_)
  refine pb_Ex.vret rfl rfl (by omega) (by omega) (⟨rfl, hW, hf⟩)
theorem mo_does7 (hW : mo_W h o A x F) (ok : ya_ok t (F 0)) (ht : t + 99 ≤ 200000) (pos : Nat) (hpos : pos + 3 < 244) (hkv : F 19 pos = (7 : Nat)) (c19 : pa_cok (F 19)) : pb_Ctr G mX4_does 8 0 0 [pb_r o, pb_i pos] h (mo_Q o A h none (mo_S (if (sp_op (F 0) 7 (F 19 (pos + 1)) (F 19 (pos + 2)) (F 19 (pos + 3))).2.2 = 0 then x else va_up x 8 (sp_op (F 0) 7 (F 19 (pos + 1)) (F 19 (pos + 2)) (F 19 (pos + 3))).2.2) (sp_op (F 0) 7 (F 19 (pos + 1)) (F 19 (pos + 2)) (F 19 (pos + 3))).1) (va_up F 0 (sp_op (F 0) 7 (F 19 (pos + 1)) (F 19 (pos + 2)) (F 19 (pos + 3))).2.1)) := by
  have hf : mo_Fr o A h h := mo_Fr.rf
  have r1 := c19 (pos + 1) (by omega)
  have r2 := c19 (pos + 2) (by omega)
  have r3 := c19 (pos + 3) (by omega)
  refine pb_Ctr.of rfl rfl rfl tX4_does_ok rfl ?_
  (try refine pb_Ex.run rfl ?_)
  refine pb_Ex.getf (v := pb_r (A 19)) rfl rfl hW.1 rfl ?_
  (try refine pb_Ex.run rfl ?_)
  refine pb_Ex.iat ((pos + 1)) rfl hW.a19 (by omega) (by omega) ?_
  (try refine pb_Ex.run rfl ?_)
  refine pb_Ex.getf (v := pb_r (A 19)) rfl rfl hW.1 rfl ?_
  (try refine pb_Ex.run rfl ?_)
  refine pb_Ex.iat ((pos + 2)) rfl hW.a19 (by omega) (by omega) ?_
  (try refine pb_Ex.run rfl ?_)
  refine pb_Ex.getf (v := pb_r (A 19)) rfl rfl hW.1 rfl ?_
  (try refine pb_Ex.run rfl ?_)
  refine pb_Ex.iat ((pos + 3)) rfl hW.a19 (by omega) (by omega) ?_
  (try refine pb_Ex.run rfl ?_)
  refine pb_Ex.getf (v := pb_r (A 19)) rfl rfl hW.1 rfl ?_
  (try refine pb_Ex.run rfl ?_)
  refine pb_Ex.iat (pos) rfl hW.a19 (by omega) (by omega) ?_
  (try refine pb_Ex.run rfl ?_)
  rw [hkv]
  refine pb_Ex.tswI 156 dX4_does_34 (by omega) (by omega) (by omega) rfl (by decide) ?_
  refine pb_Ex.run rfl ?_
  refine pb_Ex.mc rfl rfl rfl rfl hW hf rfl rfl (mo_hoursIt hW ok ht _ (by omega)) (by omega) (by omega) (by omega) (fun h1 hW hf => ?_)
  (try refine pb_Ex.run rfl ?_)
  refine pb_Ex.vret rfl rfl (by omega) (by omega) (⟨rfl, hW, hf⟩)
theorem mo_does8 (hW : mo_W h o A x F) (ok : ya_ok t (F 0)) (ht : t + 99 ≤ 200000) (pos : Nat) (hpos : pos + 3 < 244) (hkv : F 19 pos = (8 : Nat)) (c19 : pa_cok (F 19)) : pb_Ctr G mX4_does 8 0 0 [pb_r o, pb_i pos] h (mo_Q o A h none (mo_S (if (sp_op (F 0) 8 (F 19 (pos + 1)) (F 19 (pos + 2)) (F 19 (pos + 3))).2.2 = 0 then x else va_up x 8 (sp_op (F 0) 8 (F 19 (pos + 1)) (F 19 (pos + 2)) (F 19 (pos + 3))).2.2) (sp_op (F 0) 8 (F 19 (pos + 1)) (F 19 (pos + 2)) (F 19 (pos + 3))).1) (va_up F 0 (sp_op (F 0) 8 (F 19 (pos + 1)) (F 19 (pos + 2)) (F 19 (pos + 3))).2.1)) := by
  have hf : mo_Fr o A h h := mo_Fr.rf
  have r1 := c19 (pos + 1) (by omega)
  have r2 := c19 (pos + 2) (by omega)
  have r3 := c19 (pos + 3) (by omega)
  refine pb_Ctr.of rfl rfl rfl tX4_does_ok rfl ?_
  (try refine pb_Ex.run rfl ?_)
  refine pb_Ex.getf (v := pb_r (A 19)) rfl rfl hW.1 rfl ?_
  (try refine pb_Ex.run rfl ?_)
  refine pb_Ex.iat ((pos + 1)) rfl hW.a19 (by omega) (by omega) ?_
  (try refine pb_Ex.run rfl ?_)
  refine pb_Ex.getf (v := pb_r (A 19)) rfl rfl hW.1 rfl ?_
  (try refine pb_Ex.run rfl ?_)
  refine pb_Ex.iat ((pos + 2)) rfl hW.a19 (by omega) (by omega) ?_
  (try refine pb_Ex.run rfl ?_)
  refine pb_Ex.getf (v := pb_r (A 19)) rfl rfl hW.1 rfl ?_
  (try refine pb_Ex.run rfl ?_)
  refine pb_Ex.iat ((pos + 3)) rfl hW.a19 (by omega) (by omega) ?_
  (try refine pb_Ex.run rfl ?_)
  refine pb_Ex.getf (v := pb_r (A 19)) rfl rfl hW.1 rfl ?_
  (try refine pb_Ex.run rfl ?_)
  refine pb_Ex.iat (pos) rfl hW.a19 (by omega) (by omega) ?_
  (try refine pb_Ex.run rfl ?_)
  rw [hkv]
  refine pb_Ex.tswI 165 dX4_does_34 (by omega) (by omega) (by omega) rfl (by decide) ?_
  refine pb_Ex.run rfl ?_
  refine pb_Ex.mc rfl rfl rfl rfl hW hf rfl rfl (mo_tideIt hW _ _ (by omega) (by omega)) (by omega) (by omega) (by omega) (fun h1 hW hf => ?_)
  (try refine pb_Ex.run rfl ?_)
  refine pb_Ex.vret rfl rfl (by omega) (by omega) (⟨rfl, hW, hf⟩)
theorem mo_does9 (hW : mo_W h o A x F) (ok : ya_ok t (F 0)) (ht : t + 99 ≤ 200000) (pos : Nat) (hpos : pos + 3 < 244) (hkv : F 19 pos = (9 : Nat)) (c19 : pa_cok (F 19)) : pb_Ctr G mX4_does 8 0 0 [pb_r o, pb_i pos] h (mo_Q o A h none (mo_S (if (sp_op (F 0) 9 (F 19 (pos + 1)) (F 19 (pos + 2)) (F 19 (pos + 3))).2.2 = 0 then x else va_up x 8 (sp_op (F 0) 9 (F 19 (pos + 1)) (F 19 (pos + 2)) (F 19 (pos + 3))).2.2) (sp_op (F 0) 9 (F 19 (pos + 1)) (F 19 (pos + 2)) (F 19 (pos + 3))).1) (va_up F 0 (sp_op (F 0) 9 (F 19 (pos + 1)) (F 19 (pos + 2)) (F 19 (pos + 3))).2.1)) := by
  have hf : mo_Fr o A h h := mo_Fr.rf
  have r1 := c19 (pos + 1) (by omega)
  have r2 := c19 (pos + 2) (by omega)
  have r3 := c19 (pos + 3) (by omega)
  refine pb_Ctr.of rfl rfl rfl tX4_does_ok rfl ?_
  (try refine pb_Ex.run rfl ?_)
  refine pb_Ex.getf (v := pb_r (A 19)) rfl rfl hW.1 rfl ?_
  (try refine pb_Ex.run rfl ?_)
  refine pb_Ex.iat ((pos + 1)) rfl hW.a19 (by omega) (by omega) ?_
  (try refine pb_Ex.run rfl ?_)
  refine pb_Ex.getf (v := pb_r (A 19)) rfl rfl hW.1 rfl ?_
  (try refine pb_Ex.run rfl ?_)
  refine pb_Ex.iat ((pos + 2)) rfl hW.a19 (by omega) (by omega) ?_
  (try refine pb_Ex.run rfl ?_)
  refine pb_Ex.getf (v := pb_r (A 19)) rfl rfl hW.1 rfl ?_
  (try refine pb_Ex.run rfl ?_)
  refine pb_Ex.iat ((pos + 3)) rfl hW.a19 (by omega) (by omega) ?_
  (try refine pb_Ex.run rfl ?_)
  refine pb_Ex.getf (v := pb_r (A 19)) rfl rfl hW.1 rfl ?_
  (try refine pb_Ex.run rfl ?_)
  refine pb_Ex.iat (pos) rfl hW.a19 (by omega) (by omega) ?_
  (try refine pb_Ex.run rfl ?_)
  rw [hkv]
  refine pb_Ex.tswI 175 dX4_does_34 (by omega) (by omega) (by omega) rfl (by decide) ?_
  refine pb_Ex.run rfl ?_
  refine pb_Ex.mc rfl rfl rfl rfl hW hf rfl rfl (mo_orderIt hW ok _ _ _ (by omega) (by omega) (by omega)) (by omega) (by omega) (by omega) (fun h1 hW hf => ?_)
  (try refine pb_Ex.run rfl ?_)
  refine pb_Ex.vret rfl rfl (by omega) (by omega) (⟨rfl, hW, hf⟩)
theorem mo_does10 (hW : mo_W h o A x F) (ok : ya_ok t (F 0)) (ht : t + 99 ≤ 200000) (pos : Nat) (hpos : pos + 3 < 244) (hkv : F 19 pos = (10 : Nat)) (c19 : pa_cok (F 19)) : pb_Ctr G mX4_does 8 0 0 [pb_r o, pb_i pos] h (mo_Q o A h none (mo_S (if (sp_op (F 0) 10 (F 19 (pos + 1)) (F 19 (pos + 2)) (F 19 (pos + 3))).2.2 = 0 then x else va_up x 8 (sp_op (F 0) 10 (F 19 (pos + 1)) (F 19 (pos + 2)) (F 19 (pos + 3))).2.2) (sp_op (F 0) 10 (F 19 (pos + 1)) (F 19 (pos + 2)) (F 19 (pos + 3))).1) (va_up F 0 (sp_op (F 0) 10 (F 19 (pos + 1)) (F 19 (pos + 2)) (F 19 (pos + 3))).2.1)) := by
  have hf : mo_Fr o A h h := mo_Fr.rf
  have r1 := c19 (pos + 1) (by omega)
  have r2 := c19 (pos + 2) (by omega)
  have r3 := c19 (pos + 3) (by omega)
  refine pb_Ctr.of rfl rfl rfl tX4_does_ok rfl ?_
  (try refine pb_Ex.run rfl ?_)
  refine pb_Ex.getf (v := pb_r (A 19)) rfl rfl hW.1 rfl ?_
  (try refine pb_Ex.run rfl ?_)
  refine pb_Ex.iat ((pos + 1)) rfl hW.a19 (by omega) (by omega) ?_
  (try refine pb_Ex.run rfl ?_)
  refine pb_Ex.getf (v := pb_r (A 19)) rfl rfl hW.1 rfl ?_
  (try refine pb_Ex.run rfl ?_)
  refine pb_Ex.iat ((pos + 2)) rfl hW.a19 (by omega) (by omega) ?_
  (try refine pb_Ex.run rfl ?_)
  refine pb_Ex.getf (v := pb_r (A 19)) rfl rfl hW.1 rfl ?_
  (try refine pb_Ex.run rfl ?_)
  refine pb_Ex.iat ((pos + 3)) rfl hW.a19 (by omega) (by omega) ?_
  (try refine pb_Ex.run rfl ?_)
  refine pb_Ex.getf (v := pb_r (A 19)) rfl rfl hW.1 rfl ?_
  (try refine pb_Ex.run rfl ?_)
  refine pb_Ex.iat (pos) rfl hW.a19 (by omega) (by omega) ?_
  (try refine pb_Ex.run rfl ?_)
  rw [hkv]
  refine pb_Ex.tswO 187 dX4_does_34 (by omega) (by omega) (by decide) ?_
  refine pb_Ex.run rfl ?_
  refine pb_Ex.mc rfl rfl rfl rfl hW hf rfl rfl (mo_deliverIt hW ok _ _ (by omega) (by omega)) (by omega) (by omega) (by omega) (fun h1 hW hf => ?_)
  (try refine pb_Ex.run rfl ?_)
  refine pb_Ex.vret rfl rfl (by omega) (by omega) (⟨rfl, hW, hf⟩)
theorem mo_does (hW : mo_W h o A x F) (ok : ya_ok t (F 0)) (ht : t + 99 ≤ 200000) (pos k : Nat) (hk : k ≤ 10) (hpos : pos + 3 < 244) (hkv : F 19 pos = (k : Nat)) (c19 : pa_cok (F 19)) : pb_Ctr G mX4_does 8 0 0 [pb_r o, pb_i pos] h (mo_Q o A h none (mo_S (if (sp_op (F 0) k (F 19 (pos + 1)) (F 19 (pos + 2)) (F 19 (pos + 3))).2.2 = 0 then x else va_up x 8 (sp_op (F 0) k (F 19 (pos + 1)) (F 19 (pos + 2)) (F 19 (pos + 3))).2.2) (sp_op (F 0) k (F 19 (pos + 1)) (F 19 (pos + 2)) (F 19 (pos + 3))).1) (va_up F 0 (sp_op (F 0) k (F 19 (pos + 1)) (F 19 (pos + 2)) (F 19 (pos + 3))).2.1)) := by
  have hc : k = 0 ∨ k = 1 ∨ k = 2 ∨ k = 3 ∨ k = 4 ∨ k = 5 ∨ k = 6 ∨ k = 7 ∨ k = 8 ∨ k = 9 ∨ k = 10 := by omega
  rcases hc with e | e | e | e | e | e | e | e | e | e | e <;> subst e
  · exact mo_does0 hW ok ht pos hpos hkv c19
  · exact mo_does1 hW ok ht pos hpos hkv c19
  · exact mo_does2 hW ok ht pos hpos hkv c19
  · exact mo_does3 hW ok ht pos hpos hkv c19
  · exact mo_does4 hW ok ht pos hpos hkv c19
  · exact mo_does5 hW ok ht pos hpos hkv c19
  · exact mo_does6 hW ok ht pos hpos hkv c19
  · exact mo_does7 hW ok ht pos hpos hkv c19
  · exact mo_does8 hW ok ht pos hpos hkv c19
  · exact mo_does9 hW ok ht pos hpos hkv c19
  · exact mo_does10 hW ok ht pos hpos hkv c19
end MODEL16
