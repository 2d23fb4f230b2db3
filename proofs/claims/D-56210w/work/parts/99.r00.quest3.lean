set_option maxRecDepth 100000
section QUEST3
variable {G : pb_G} {K : co_K} {h : pb_H} {A : Nat → Nat} {f : Nat → Int} {t o : Nat} {us : List pb_V}
theorem bo_orderCount (hU : h.2 o = some (pb_ob 0 (pb_r (A 0) :: us))) (hW : yd_W K h A f) : pb_Ctr G mX1_orderCount 1 0 0 [pb_r o] h (pb_P (some (pb_i ((f 2).toNat : Nat))) h) := by
  obtain ⟨g, hO1, hO2⟩ := hW.2.2.2.1
  obtain ⟨mc, ho⟩ := hO1.obj
  refine pb_Ctr.of rfl rfl rfl tX1_orderCount_ok rfl ?_
  (try refine pb_Ex.run rfl ?_)
  refine pb_Ex.getf rfl rfl hU rfl ?_
  (try refine pb_Ex.run rfl ?_)
  refine pb_Ex.getf rfl rfl hW.1 rfl ?_
  (try refine pb_Ex.run rfl ?_)
  refine pb_Ex.pV rfl rfl rfl rfl (ho) rfl rfl (ja_size hO1) (by omega) (by omega) (by omega) ?_
  (try refine pb_Ex.run rfl ?_)
  refine pb_Ex.iret rfl rfl (by omega) (by omega) (⟨rfl, rfl⟩)
theorem bo_paidCoins (hU : h.2 o = some (pb_ob 0 (pb_r (A 0) :: us))) (hW : yd_W K h A f) : pb_Ctr G mX1_paidCoins 1 0 0 [pb_r o] h (pb_P (some (pb_j (f 4))) h) := by
  refine pb_Ctr.of rfl rfl rfl tX1_paidCoins_ok rfl ?_
  (try refine pb_Ex.run rfl ?_)
  refine pb_Ex.getf rfl rfl hU rfl ?_
  (try refine pb_Ex.run rfl ?_)
  refine pb_Ex.getf rfl rfl hW.1 rfl ?_
  (try refine pb_Ex.run rfl ?_)
  refine pb_Ex.lret rfl rfl (by omega) (by omega) (⟨rfl, rfl⟩)
theorem bo_isSymmetric1 (hU : h.2 o = some (pb_ob 0 (pb_r (A 0) :: us))) (hW : yd_W K h A f) (ok : ya_ok t f) (z : Int) (hz : 0 ≤ z ∧ z < f 0) : pb_Ctr G mX1_isSymmetric 4 0 0 [pb_r o, pb_i z] h (pb_P (some (pb_i (ya_re f z.toNat z.toNat))) h) := by
  have hn := ok.num
  have hh := hW.2.2.1 z.toNat (by omega)
  have r01 : ya_re f z.toNat z.toNat = 0 ∨ ya_re f z.toNat z.toNat = 1 := by
    have key : ∀ m j, ya_reF f z.toNat z.toNat j m = 0 ∨ ya_reF f z.toNat z.toNat j m = 1 := by
      intro m
      induction m with
      | zero => exact fun _ => Or.inr rfl
      | succ m ih =>
        intro j
        unfold ya_reF
        split
        · exact ih _
        · exact Or.inl rfl
    unfold ya_re
    split
    · exact key _ _
    · exact Or.inl rfl
  refine pb_Ctr.of rfl rfl rfl tX1_isSymmetric_ok rfl ?_
  (try refine pb_Ex.run rfl ?_)
  refine pb_Ex.getf rfl rfl hU rfl ?_
  (try refine pb_Ex.run rfl ?_)
  refine pb_Ex.pV rfl rfl rfl rfl (hW.1) rfl rfl (yd_hull1 hW ok z hz) (by omega) (by omega) (by omega) ?_
  (try refine pb_Ex.run rfl ?_)
  refine pb_Ex.pV rfl rfl rfl rfl (hh.1) rfl rfl (hu_refl hh hh (ok.hu2 (by omega)) (ok.hu2 (by omega))) (by omega) (by omega) (by omega) ?_
  (try refine pb_Ex.run rfl ?_)
  refine pb_Ex.zret (ty := .boolean) rfl rfl (pb_nb (r01)).1 (by omega) (by omega) (⟨rfl, rfl⟩)
end QUEST3
