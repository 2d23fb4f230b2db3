set_option maxRecDepth 100000
section OPS2
variable {G : pb_G} {K : co_K} {h : pb_H} {A : Nat → Nat} {f : Nat → Int} {t lo : Nat}
theorem hu_W.own {h' : pb_H} {B : Nat → Nat} {k : Nat} {f' : Nat → Int} (hW : hu_W K h B k f) (h8 : ya_n f k ≤ 8) (hx : fr_P (fun b _ => b ≠ B 0) h h') (h0 : h'.2 (B 0) = some (pb_ob 5 [pb_i k, pb_r (B 1), pb_r (B 2), pb_r (co_st K (f' (21 + 28 * k)).toNat), pb_i (f' (23 + 28 * k)), pb_i (f' (24 + 28 * k))])) (hf : ∀ i, i ≠ 21 + 28 * k → i ≠ 23 + 28 * k → i ≠ 24 + 28 * k → f' i = f i) : hu_W K h' B k f' := by
  obtain ⟨k1, ⟨g, k2, k3⟩, ⟨c, k4, k5⟩, k6⟩ := hW
  obtain ⟨mc, cap, q, m1, m2, -⟩ := id k2
  have ne : ∀ b x, h.2 b = some x → (∀ fs, x ≠ pb_ob 5 fs) → b ≠ B 0 := fun b x hb hx e => by
    rw [e, k1] at hb
    cases hb
    exact hx _ rfl
  have e1 : f' (22 + 28 * k) = f (22 + 28 * k) := hf _ (by omega) (by omega) (by omega)
  have en : ya_n f' k = ya_n f k := ya_n_cg e1
  have es : ya_se f' k = ya_se f k := ya_se_cg e1
  refine ⟨h0, ⟨g, ?_, fun j hj => ?_⟩, ⟨c, hx.2 _ _ k4 (ne _ _ k4 (fun fs z => by cases z)), fun j hj => ?_⟩, k6⟩
  · rw [en]
    exact k2.fr hx (fun _ _ => ne _ _ m1 (fun fs z => by cases z)) (fun _ _ => ne _ _ m2 (fun fs z => by cases z)) (fun j hj ci fs hg => by
      have := k3 j hj
      rw [hg] at this
      cases this
      exact ne _ _ hg (fun fs z => by cases z))
  · rw [en] at hj
    rw [hf _ (by omega) (by omega) (by omega), hf _ (by omega) (by omega) (by omega)]
    exact hx.2 _ _ (k3 j hj) (ne _ _ (k3 j hj) (fun fs z => by cases z))
  · rw [es, k5 j hj, hf _ (by omega) (by omega) (by omega)]
/-- a hull's own fields change -/
theorem yd_own {k : Nat} {f' : Nat → Int} {fs : List pb_V} (hK : co_W K h) (hW : yd_W K h A f) (ok : ya_ok t f) (hJ : yd_J K A (f 0).toNat lo) (hk : k < (f 0).toNat) (hfs : fs = [pb_i k, pb_r (A (7 + 4 * k + 1)), pb_r (A (7 + 4 * k + 2)), pb_r (co_st K (f' (21 + 28 * k)).toNat), pb_i (f' (23 + 28 * k)), pb_i (f' (24 + 28 * k))]) (hf : ∀ i, i ≠ 21 + 28 * k → i ≠ 23 + 28 * k → i ≠ 24 + 28 * k → f' i = f i) : yd_W K (pb_set h (A (7 + 4 * k)) (pb_ob 5 fs)) A f' := by
  have hn := ok.num
  have hh := hW.2.2.1 k hk
  have hE := hu_E hK hh 0 (by omega)
  subst hfs
  refine yd_W.hull hW ok.n8 hJ hk (fr_P.rf.st _ (fun c hc z => hE (z 0 (by omega) rfl))) (fun i _ => rfl) (hh.own (ok.n8 k hk) (fr_P.rf.st _ (fun c hc z => z rfl)) pb_set_same hf) (fun i hi _ => hf i (by omega) (by omega) (by omega)) (by omega) (by omega)
def ex_hull : Int → String := fun c => if c = 1 then xIOB else if c = 2 then xIAE else xISE
def ex_hull2 : Int → String := fun c => if c = 1 then xIOB else xISE
theorem yd_setCargo (hG : co_G G K) (hK : co_W K h) (hW : yd_W K h A f) (ok : ya_ok t f) (hJ : yd_J K A (f 0).toNat lo) (hlo : lo ≤ h.1) (z v : Int) (hz : pb_rg z) (hv : pb_rg v) : pb_Ctr G mX2_setCargo 8 2 8 [pb_r (A 0), pb_i z, pb_i v] h (yd_Q K h A lo ex_hull (sp_cargo f z v)) := by
  have hn := ok.num
  unfold sp_cargo
  refine pb_Ctr.of rfl rfl rfl tX2_setCargo_ok rfl ?_
  (try refine pb_Ex.run rfl ?_)
  refine pb_Ex.fin (fun hf => ?_)
  by_cases cz : 0 ≤ z ∧ z < f 0
  · rw [if_neg (not_not_intro cz)]
    obtain ⟨k, rfl⟩ := Int.eq_ofNat_of_zero_le cz.1
    rw [Int.toNat_natCast]
    have hk : k < (f 0).toNat := by omega
    have oh := (ok.hull (k := k) (by omega))
    refine pb_Ex.pV rfl rfl rfl rfl (hW.1) rfl rfl (yd_hull1 hW ok k cz) (by omega) (by omega) (by omega) ?_
    (try refine pb_Ex.run rfl ?_)
    rw [Int.toNat_natCast]
    refine pb_Ex.newZ 1 rfl rfl (by omega) (by omega) (by omega) ?_
    (try refine pb_Ex.run rfl ?_)
    refine pb_Ex.pS rfl rfl rfl rfl (ck_bt (v) (0) (999) (by omega) (by omega) (by omega)) (by omega) (by omega) (by omega) ?_
    obtain ⟨v1, hv1, iv1⟩ := bt_ex (0 ≤ v ∧ v ≤ 999)
    rw [← hv1]
    (try refine pb_Ex.run rfl ?_)
    refine pb_Ex.zstat (0) rfl (pb_new_same) (by omega) (by omega) (by omega) ?_
    (try refine pb_Ex.run rfl ?_)
    have x2 : fr_x h (pb_set (pb_new h (pb_aI 1 1 fun _ => 0)) h.1 (pb_aI 1 1 (va_up (fun _ => 0) 0 v1))) := (fr_x.rf.nw hf _).st hf _ (Nat.le_refl _)
    have b2 : (pb_set (pb_new h (pb_aI 1 1 fun _ => 0)) h.1 (pb_aI 1 1 (va_up (fun _ => 0) 0 v1))).2 h.1 = some (pb_aI 1 1 (va_up (fun _ => 0) 0 v1)) := pb_set_same
    generalize pb_set (pb_new h (pb_aI 1 1 fun _ => 0)) h.1 (pb_aI 1 1 (va_up (fun _ => 0) 0 v1)) = h2 at x2 b2 ⊢
    have ar := ar_1 iv1.1
    by_cases c : 0 ≤ v ∧ v ≤ 999
    · rw [if_neg (not_not_intro c)]
      refine pb_Ex.pS rfl rfl rfl rfl (ck_arg1 b2 (by omega) (ar.2.mpr (iv1.2.mpr c))) (by omega) (by omega) (by omega) ?_
      (try refine pb_Ex.run rfl ?_)
      have hW2 := hW.x x2
      have hK2 := hK.x hG x2
      have hh := hW2.2.2.1 k hk
      have hE := hu_E hK2 hh 0 (by omega)
      have ge := yd_ge hJ (i := 7 + 4 * k) (by omega) hE
      refine pb_Ex.getf rfl rfl hh.1 rfl ?_
      (try refine pb_Ex.run rfl ?_)
      refine pb_Ex.work rfl rfl hG (by omega) rfl rfl (by omega) ?_
      by_cases cs : f (21 + 28 * k) = 0 ∨ f (21 + 28 * k) = 1
      · rw [if_neg (not_not_intro cs), if_pos (by omega)]
        (try refine pb_Ex.run rfl ?_)
        refine pb_Ex.pS rfl rfl rfl rfl (ck_st1) (by omega) (by omega) (by omega) ?_
        (try refine pb_Ex.run rfl ?_)
        refine pb_Ex.getf rfl rfl hh.1 rfl ?_
        (try refine pb_Ex.run rfl ?_)
        refine pb_Ex.putf rfl rfl (hh.1) rfl rfl (by first | trivial | exact Or.inl rfl | exact Or.inr rfl | (show _ ∨ _; omega) | (show _ ∧ _; omega)) ?_
        (try refine pb_Ex.run rfl ?_)
        refine pb_Ex.iret rfl rfl (by omega) (by omega) (yd_Q.ok (A' := A) (x2.P.st _ (fun c hc => by show ¬ A (7 + 4 * k) < lo; omega)) rfl (yd_own hK2 hW2 ok hJ hk ?_ (fun i h1 h2 h3 => va_upN _ _ h2)) ?_)
        · rw [va_upS, va_upN f v (show 21 + 28 * k ≠ 23 + 28 * k by omega), va_upN f v (show 24 + 28 * k ≠ 23 + 28 * k by omega)]
          rfl
        · rw [va_upN f v (show 0 ≠ 23 + 28 * k by omega)]
          exact hJ
      · rw [if_pos cs, if_neg (by omega)]
        (try refine pb_Ex.run rfl ?_)
        refine pb_Ex.tS rfl rfl rfl rfl (ck_st0 hG) (by omega) (by omega) (by omega) (fun q h1 hx1 => pb_Xx.out rfl (by omega) (by omega) ?_)
        exact yd_Q.no (ex := ex_hull) (fr_P.ho (fr_x.P (x2.tr hx1)) (by omega)) (by decide)
    · rw [if_pos c]
      refine pb_Ex.tS rfl rfl rfl rfl (ck_argE hG b2 (by omega) ar.1 (fun q => c (iv1.2.mp (ar.2.mp q)))) (by omega) (by omega) (by omega) (fun q h1 hx1 => pb_Xx.out rfl (by omega) (by omega) ?_)
      exact yd_Q.no (ex := ex_hull) (fr_P.ho (fr_x.P (x2.tr hx1)) (by omega)) (by decide)
  · rw [if_pos cz]
    refine pb_Ex.tV rfl rfl rfl rfl (hW.1) rfl rfl (yd_hull0 hG hW ok z hz cz) (by omega) (by omega) (by omega) (fun q h1 hx1 => pb_Xx.out rfl (by omega) (by omega) ?_)
    exact yd_Q.no (ex := ex_hull) (fr_P.ho (fr_x.P hx1) (by omega)) (by decide)
theorem yd_pump (hG : co_G G K) (hK : co_W K h) (hW : yd_W K h A f) (ok : ya_ok t f) (ht : t + 99 ≤ 200000) (hJ : yd_J K A (f 0).toNat lo) (hlo : lo ≤ h.1) (z v : Int) (hz : pb_rg z) (hv : pb_rg v) : pb_Ctr G mX2_pump 8 2 8 [pb_r (A 0), pb_i z, pb_i v] h (yd_Q K h A lo ex_hull (sp_pump f z v)) := by
  have hn := ok.num
  unfold sp_pump
  refine pb_Ctr.of rfl rfl rfl tX2_pump_ok rfl ?_
  (try refine pb_Ex.run rfl ?_)
  refine pb_Ex.fin (fun hf => ?_)
  by_cases cz : 0 ≤ z ∧ z < f 0
  · rw [if_neg (not_not_intro cz)]
    obtain ⟨k, rfl⟩ := Int.eq_ofNat_of_zero_le cz.1
    rw [Int.toNat_natCast]
    have hk : k < (f 0).toNat := by omega
    have oh := (ok.hull (k := k) (by omega))
    refine pb_Ex.pV rfl rfl rfl rfl (hW.1) rfl rfl (yd_hull1 hW ok k cz) (by omega) (by omega) (by omega) ?_
    (try refine pb_Ex.run rfl ?_)
    rw [Int.toNat_natCast]
    refine pb_Ex.newZ 1 rfl rfl (by omega) (by omega) (by omega) ?_
    (try refine pb_Ex.run rfl ?_)
    refine pb_Ex.pS rfl rfl rfl rfl (ck_bt (v) (1) (999) (by omega) (by omega) (by omega)) (by omega) (by omega) (by omega) ?_
    obtain ⟨v1, hv1, iv1⟩ := bt_ex (1 ≤ v ∧ v ≤ 999)
    rw [← hv1]
    (try refine pb_Ex.run rfl ?_)
    refine pb_Ex.zstat (0) rfl (pb_new_same) (by omega) (by omega) (by omega) ?_
    (try refine pb_Ex.run rfl ?_)
    have x2 : fr_x h (pb_set (pb_new h (pb_aI 1 1 fun _ => 0)) h.1 (pb_aI 1 1 (va_up (fun _ => 0) 0 v1))) := (fr_x.rf.nw hf _).st hf _ (Nat.le_refl _)
    have b2 : (pb_set (pb_new h (pb_aI 1 1 fun _ => 0)) h.1 (pb_aI 1 1 (va_up (fun _ => 0) 0 v1))).2 h.1 = some (pb_aI 1 1 (va_up (fun _ => 0) 0 v1)) := pb_set_same
    generalize pb_set (pb_new h (pb_aI 1 1 fun _ => 0)) h.1 (pb_aI 1 1 (va_up (fun _ => 0) 0 v1)) = h2 at x2 b2 ⊢
    have ar := ar_1 iv1.1
    by_cases c : 1 ≤ v ∧ v ≤ 999
    · rw [if_neg (not_not_intro c)]
      refine pb_Ex.pS rfl rfl rfl rfl (ck_arg1 b2 (by omega) (ar.2.mpr (iv1.2.mpr c))) (by omega) (by omega) (by omega) ?_
      (try refine pb_Ex.run rfl ?_)
      have hW2 := hW.x x2
      have hK2 := hK.x hG x2
      have hh := hW2.2.2.1 k hk
      have hE := hu_E hK2 hh 0 (by omega)
      have ge := yd_ge hJ (i := 7 + 4 * k) (by omega) hE
      refine pb_Ex.gets rfl (hG.2.2.2.2.1 1 (by omega)).1 q392 ?_
      (try refine pb_Ex.run rfl ?_)
      refine pb_Ex.pV rfl rfl rfl rfl (hh.1) rfl rfl (hu_is hG hh (ok.hu2 hk) 1 (by omega)) (by omega) (by omega) (by omega) ?_
      (try refine pb_Ex.run rfl ?_)
      by_cases cs : f (21 + 28 * k) = 1
      · rw [if_neg (not_not_intro cs), if_pos (show f (21 + 28 * k) = (1 : Nat) from cs)]
        refine pb_Ex.pS rfl rfl rfl rfl (ck_st1) (by omega) (by omega) (by omega) ?_
        (try refine pb_Ex.run rfl ?_)
        refine pb_Ex.getf rfl rfl hh.1 rfl ?_
        (try refine pb_Ex.run rfl ?_)
        refine pb_Ex.mmax rfl rfl (by omega) (by omega) rfl (by omega) (by omega) (by omega) ?_
        (try refine pb_Ex.run rfl ?_)
        refine pb_Ex.putf rfl rfl (hh.1) rfl rfl (by first | trivial | exact Or.inl rfl | exact Or.inr rfl | (show _ ∨ _; omega) | (show _ ∧ _; omega)) ?_
        (try refine pb_Ex.run rfl ?_)
        refine pb_Ex.getf rfl rfl pb_set_same rfl ?_
        (try refine pb_Ex.run rfl ?_)
        refine pb_Ex.iret rfl rfl (by omega) (by omega) (yd_Q.ok (A' := A) (x2.P.st _ (fun c hc => by show ¬ A (7 + 4 * k) < lo; omega)) rfl (yd_own hK2 hW2 ok hJ hk ?_ (fun i h1 h2 h3 => va_upN _ _ h3)) ?_)
        · rw [va_upS, va_upN f _ (show 21 + 28 * k ≠ 24 + 28 * k by omega), va_upN f _ (show 23 + 28 * k ≠ 24 + 28 * k by omega)]
          rfl
        · rw [va_upN f _ (show 0 ≠ 24 + 28 * k by omega)]
          exact hJ
      · rw [if_pos cs, if_neg (show ¬ f (21 + 28 * k) = (1 : Nat) from cs)]
        refine pb_Ex.tS rfl rfl rfl rfl (ck_st0 hG) (by omega) (by omega) (by omega) (fun q h1 hx1 => pb_Xx.out rfl (by omega) (by omega) ?_)
        exact yd_Q.no (ex := ex_hull) (fr_P.ho (fr_x.P (x2.tr hx1)) (by omega)) (by decide)
    · rw [if_pos c]
      refine pb_Ex.tS rfl rfl rfl rfl (ck_argE hG b2 (by omega) ar.1 (fun q => c (iv1.2.mp (ar.2.mp q)))) (by omega) (by omega) (by omega) (fun q h1 hx1 => pb_Xx.out rfl (by omega) (by omega) ?_)
      exact yd_Q.no (ex := ex_hull) (fr_P.ho (fr_x.P (x2.tr hx1)) (by omega)) (by decide)
  · rw [if_pos cz]
    refine pb_Ex.tV rfl rfl rfl rfl (hW.1) rfl rfl (yd_hull0 hG hW ok z hz cz) (by omega) (by omega) (by omega) (fun q h1 hx1 => pb_Xx.out rfl (by omega) (by omega) ?_)
    exact yd_Q.no (ex := ex_hull) (fr_P.ho (fr_x.P hx1) (by omega)) (by decide)
theorem yd_caulk (hG : co_G G K) (hK : co_W K h) (hW : yd_W K h A f) (ok : ya_ok t f) (hJ : yd_J K A (f 0).toNat lo) (z y : Int) (hz : pb_rg z) (hy : pb_rg y) : pb_Ctr G mX2_caulk 9 1 6 [pb_r (A 0), pb_i z, pb_i y] h (yd_Q K h A lo ex_hull2 (sp_caulk f z y)) := by
  have hn := ok.num
  unfold sp_caulk
  refine pb_Ctr.of rfl rfl rfl tX2_caulk_ok rfl ?_
  (try refine pb_Ex.run rfl ?_)
  refine pb_Ex.fin (fun hf => ?_)
  by_cases cz : (0 ≤ z ∧ z < f 0) ∧ 0 ≤ y ∧ y < ya_se f z.toNat
  · rw [if_neg (not_not_intro cz)]
    obtain ⟨k, rfl⟩ := Int.eq_ofNat_of_zero_le cz.1.1
    obtain ⟨j, rfl⟩ := Int.eq_ofNat_of_zero_le cz.2.1
    rw [Int.toNat_natCast] at cz ⊢
    rw [Int.toNat_natCast]
    have hk : k < (f 0).toNat := by omega
    have oh := (ok.hull (k := k) (by omega))
    have n8 := ok.n8 k hk
    have hj : j < ya_se f k := by omega
    have hj8 : ya_se f k ≤ 7 := by unfold ya_se; omega
    refine pb_Ex.pV rfl rfl rfl rfl (hW.1) rfl rfl (yd_seam1 hW ok k j cz.1 (by rw [Int.toNat_natCast]; exact cz.2)) (by omega) (by omega) (by omega) ?_
    (try refine pb_Ex.run rfl ?_)
    rw [Int.toNat_natCast]
    have hh := hW.2.2.1 k hk
    have hE := hu_E hK hh 2 (by omega)
    have ge := yd_ge hJ (i := 7 + 4 * k + 2) (by omega) hE
    obtain ⟨k1, ⟨g, k2, k3⟩, ⟨c, k4, k5⟩, k6⟩ := id hh
    refine pb_Ex.getf rfl rfl hh.1 rfl ?_
    (try refine pb_Ex.run rfl ?_)
    refine pb_Ex.work rfl rfl hG (by omega) rfl rfl (by omega) ?_
    by_cases cs : f (21 + 28 * k) = 0 ∨ f (21 + 28 * k) = 1
    · rw [if_neg (not_not_intro cs), if_pos (by omega)]
      (try refine pb_Ex.run rfl ?_)
      refine pb_Ex.pS rfl rfl rfl rfl (ck_st1) (by omega) (by omega) (by omega) ?_
      (try refine pb_Ex.run rfl ?_)
      have cj := ok.cau (k := k) (by omega) (j := j) (by omega)
      have ec := k5 j (by omega)
      rw [if_pos hj] at ec
      refine pb_Ex.getf rfl rfl hh.1 rfl ?_
      (try refine pb_Ex.run rfl ?_)
      refine pb_Ex.iat (j) rfl (k4) (by omega) (by omega) ?_
      (try refine pb_Ex.run rfl ?_)
      refine pb_Ex.getf rfl rfl hh.1 rfl ?_
      (try refine pb_Ex.run rfl ?_)
      refine pb_Ex.istat (j) rfl (k4) (by omega) (by omega) ?_
      (try refine pb_Ex.run rfl ?_)
      rw [ec]
      obtain ⟨mc, cap, q, m1, m2, -⟩ := id k2
      refine pb_Ex.iret rfl rfl (by omega) (by omega) (yd_Q.ok (A' := A) (fr_P.rf.st _ (fun c hc => by show ¬ A (7 + 4 * k + 2) < lo; omega)) rfl (yd_W.hull hW ok.n8 hJ hk (fr_P.rf.st _ (fun c hc z => hE (z 2 (by omega) rfl))) (fun i _ => rfl) ⟨?_, ⟨g, ?_, fun i hi => ?_⟩, ⟨va_up c j 9, pb_set_same, fun i hi => ?_⟩, k6⟩ (fun i hi _ => va_upN _ _ (by omega)) (by omega) (by omega)) ?_)
      · rw [va_upN f _ (show 21 + 28 * k ≠ 41 + 28 * k + j by omega), va_upN f _ (show 23 + 28 * k ≠ 41 + 28 * k + j by omega), va_upN f _ (show 24 + 28 * k ≠ 41 + 28 * k + j by omega)]
        have e : A (7 + 4 * k + 0) ≠ A (7 + 4 * k + 2) := fun e => by rw [show (fun i => A (7 + 4 * k + i)) 0 = A (7 + 4 * k + 2) from e, k4] at k1; cases k1
        exact (pb_set_ne e).trans k1
      · have e1 : A (7 + 4 * k + 1) ≠ A (7 + 4 * k + 2) := fun e => by rw [show (fun i => A (7 + 4 * k + i)) 1 = A (7 + 4 * k + 2) from e, k4] at m1; cases m1
        have e3 : A (7 + 4 * k + 3) ≠ A (7 + 4 * k + 2) := fun e => by rw [show (fun i => A (7 + 4 * k + i)) 3 = A (7 + 4 * k + 2) from e, k4] at m2; cases m2
        rw [ya_n_cg (f := f) (va_upN f _ (show 22 + 28 * k ≠ 41 + 28 * k + j by omega))]
        refine k2.fr (P := fun b _ => b ≠ A (7 + 4 * k + 2)) (fr_P.rf.st _ (fun c hc z => z rfl)) (fun _ _ => e1) (fun _ _ => e3) (fun i hi ci fs hg e => ?_)
        rw [e, show A (7 + 4 * k + 2) = (fun i => A (7 + 4 * k + i)) 2 from rfl, k4] at hg
        cases hg
      · rw [ya_n_cg (f := f) (va_upN f _ (show 22 + 28 * k ≠ 41 + 28 * k + j by omega))] at hi
        rw [va_upN f _ (show 25 + 28 * k + 2 * i + 0 ≠ 41 + 28 * k + j by omega), va_upN f _ (show 25 + 28 * k + 2 * i + 1 ≠ 41 + 28 * k + j by omega)]
        have q := k3 i hi
        have e : g i ≠ A (7 + 4 * k + 2) := fun e => by rw [e, show A (7 + 4 * k + 2) = (fun i => A (7 + 4 * k + i)) 2 from rfl, k4] at q; cases q
        exact (pb_set_ne e).trans q
      · rw [ya_se_cg (f := f) (va_upN f _ (show 22 + 28 * k ≠ 41 + 28 * k + j by omega))]
        by_cases q : i = j
        · subst q
          rw [va_upS, if_pos hj, va_upS]
        · rw [va_upN _ _ q, va_upN f _ (show 41 + 28 * k + i ≠ 41 + 28 * k + j by omega)]
          exact k5 i hi
      · rw [va_upN f _ (show 0 ≠ 41 + 28 * k + j by omega)]
        exact hJ
    · rw [if_pos cs, if_neg (by omega)]
      (try refine pb_Ex.run rfl ?_)
      refine pb_Ex.tS rfl rfl rfl rfl (ck_st0 hG) (by omega) (by omega) (by omega) (fun q h1 hx1 => pb_Xx.out rfl (by omega) (by omega) ?_)
      exact yd_Q.no (ex := ex_hull2) (fr_P.ho (fr_x.P hx1) (by omega)) (by decide)
  · rw [if_pos cz]
    refine pb_Ex.tV rfl rfl rfl rfl (hW.1) rfl rfl (yd_seam0 hG hW ok z y hz hy cz) (by omega) (by omega) (by omega) (fun q h1 hx1 => pb_Xx.out rfl (by omega) (by omega) ?_)
    exact yd_Q.no (ex := ex_hull2) (fr_P.ho (fr_x.P hx1) (by omega)) (by decide)
theorem yd_mirror (hG : co_G G K) (hK : co_W K h) (hW : yd_W K h A f) (ok : ya_ok t f) (hJ : yd_J K A (f 0).toNat lo) (z : Int) (hz : pb_rg z) : pb_Ctr G mX2_mirror 8 8 16 [pb_r (A 0), pb_i z] h (yd_Q K h A lo ex_hull2 (sp_mirror f z)) := by
  have hn := ok.num
  unfold sp_mirror
  refine pb_Ctr.of rfl rfl rfl tX2_mirror_ok rfl ?_
  (try refine pb_Ex.run rfl ?_)
  refine pb_Ex.fin (fun hf => ?_)
  by_cases cz : 0 ≤ z ∧ z < f 0
  · rw [if_neg (not_not_intro cz)]
    obtain ⟨k, rfl⟩ := Int.eq_ofNat_of_zero_le cz.1
    rw [Int.toNat_natCast]
    have hk : k < (f 0).toNat := by omega
    have oh := ok.hu2 hk
    refine pb_Ex.pV rfl rfl rfl rfl (hW.1) rfl rfl (yd_hull1 hW ok k cz) (by omega) (by omega) (by omega) ?_
    (try refine pb_Ex.run rfl ?_)
    rw [Int.toNat_natCast]
    have hh := hW.2.2.1 k hk
    refine pb_Ex.gets rfl (hG.2.2.2.2.1 0 (by omega)).1 q327 ?_
    (try refine pb_Ex.run rfl ?_)
    refine pb_Ex.pV rfl rfl rfl rfl (hh.1) rfl rfl (hu_is hG hh oh 0 (by omega)) (by omega) (by omega) (by omega) ?_
    (try refine pb_Ex.run rfl ?_)
    by_cases cs : f (21 + 28 * k) = 0
    · rw [if_neg (not_not_intro cs), if_pos (show f (21 + 28 * k) = (0 : Nat) from cs)]
      refine pb_Ex.pS rfl rfl rfl rfl (ck_st1) (by omega) (by omega) (by omega) ?_
      (try refine pb_Ex.run rfl ?_)
      refine pb_Ex.cV rfl rfl rfl rfl hh.1 rfl rfl (hu_mirror hh oh) ⟨by omega, by omega, by omega⟩ (fun v h3 hq => ?_) (fun E q9 h2 hq => by cases hq.1)
      obtain ⟨d1, d2, d3⟩ := hq
      cases d1
      (try refine pb_Ex.run rfl ?_)
      have hE1 := hu_E hK hh 1 (by omega)
      have ge := yd_ge hJ (i := 7 + 4 * k + 1) (by omega) hE1
      have g3 := hJ.2 (7 + 4 * k + 3) (by omega)
      have ho : ∀ i, i < 25 + 28 * k ∨ 25 + 28 * k + 2 * ya_n f k ≤ i → sp_miF f k (ya_n f k) i = f i := fun i hi => hu_miO f k _ i hi
      have n8 := ok.n8 k hk
      refine pb_Ex.iret rfl rfl (by omega) (by omega) (yd_Q.ok (A' := A) (d3.mono (fun b c hb hl => ⟨fun e => ?_, ?_⟩)) rfl (yd_W.hull hW ok.n8 hJ hk (d3.mono (fun b c hb hl => ⟨fun e => ?_, ?_⟩)) (fun i _ => rfl) d2 (fun i hi _ => ho i (by omega)) (by omega) (by omega)) ?_)
      · have hl : b < lo := hl
        have e : b = A (7 + 4 * k + 1) := e
        omega
      · have hl : b < lo := hl
        show b ≠ A (7 + 4 * k + 3) ∨ _
        by_cases e : b = A (7 + 4 * k + 3)
        · rcases g3 with g3 | g3
          · omega
          · exact Or.inr (e.trans g3)
        · exact Or.inl e
      · exact hE1 (by have := hl 1 (by omega) e; rw [e] at this; exact this)
      · show b ≠ A (7 + 4 * k + 3) ∨ _
        by_cases e : b = A (7 + 4 * k + 3)
        · exact Or.inr (hl 3 (by omega) e)
        · exact Or.inl e
      · rw [ho 0 (by omega)]
        exact hJ
    · rw [if_pos cs, if_neg (show ¬ f (21 + 28 * k) = (0 : Nat) from cs)]
      refine pb_Ex.tS rfl rfl rfl rfl (ck_st0 hG) (by omega) (by omega) (by omega) (fun q h1 hx1 => pb_Xx.out rfl (by omega) (by omega) ?_)
      exact yd_Q.no (ex := ex_hull2) (fr_P.ho (fr_x.P hx1) (by omega)) (by decide)
  · rw [if_pos cz]
    refine pb_Ex.tV rfl rfl rfl rfl (hW.1) rfl rfl (yd_hull0 hG hW ok z hz cz) (by omega) (by omega) (by omega) (fun q h1 hx1 => pb_Xx.out rfl (by omega) (by omega) ?_)
    exact yd_Q.no (ex := ex_hull2) (fr_P.ho (fr_x.P hx1) (by omega)) (by decide)
end OPS2
