set_option maxRecDepth 100000
/-! THE YARD -/
theorem bt_ex (c : Prop) [Decidable c] : ∃ v : Int, v = (if c then 1 else 0) ∧ (v = 0 ∨ v = 1) ∧ (v = 1 ↔ c) := by
  by_cases h : c
  · exact ⟨1, by rw [if_pos h], Or.inr rfl, by simp [h]⟩
  · exact ⟨0, by rw [if_neg h], Or.inl rfl, by simp [h]⟩
def yd_O (K : co_K) (h : pb_H) (A : Nat → Nat) (f : Nat → Int) (g : Nat → Nat) : Prop := al_W K h (A 2) (A 6) (f 2).toNat g ∧ ∀ j, j < (f 2).toNat → h.2 (g j) = some (pb_ob 8 [pb_i (f (189 + 4 * j)), pb_i (f (190 + 4 * j)), pb_i (f (191 + 4 * j)), pb_i (f (192 + 4 * j))])
/-- addresses: 0 the yard, 1 hulls, 2 orders, 3 tides, 4 slips, 5 the hulls' cells, 6 the orders' cells, 7 + 4 k + i: hull k's i-th -/
def yd_W (K : co_K) (h : pb_H) (A : Nat → Nat) (f : Nat → Int) : Prop :=
  h.2 (A 0) = some (pb_ob 1 [pb_r (A 1), pb_r (A 2), pb_r (A 3), pb_r (A 4), pb_i (f 1), pb_i (f 3), pb_j (f 4)]) ∧
  al_W K h (A 1) (A 5) (f 0).toNat (fun k => A (7 + 4 * k)) ∧
  (∀ k, k < (f 0).toNat → hu_W K h (fun i => A (7 + 4 * k + i)) k f) ∧
  (∃ g, yd_O K h A f g) ∧
  (∃ c, h.2 (A 3) = some (pb_aI 0 12 c) ∧ ∀ j, j < 12 → c j = f (5 + j)) ∧
  (∃ c, h.2 (A 4) = some (pb_aI 0 4 c) ∧ ∀ j, j < 4 → c j = f (17 + j)) ∧ co_D K (A 3) ∧ co_D K (A 4)
theorem yd_W.fr {K : co_K} {h h' : pb_H} {A : Nat → Nat} {f : Nat → Int} {P : Nat → pb_C → Prop} (hW : yd_W K h A f) (hx : fr_P P h h') (hP : ∀ i, i < 7 + 4 * (f 0).toNat → ∀ c, h.2 (A i) = some c → P (A i) c) (h6 : ∀ b fs, h.2 b = some (pb_ob 6 fs) → P b (pb_ob 6 fs)) (h8 : ∀ b fs, h.2 b = some (pb_ob 8 fs) → P b (pb_ob 8 fs)) : yd_W K h' A f := by
  obtain ⟨k1, k2, k3, ⟨g, k4, k5⟩, ⟨c, k6, k7⟩, ⟨c2, k8, k9⟩, k10⟩ := hW
  refine ⟨hx.2 _ _ k1 (hP 0 (by omega) _ k1), k2.fr hx (hP 1 (by omega)) (hP 5 (by omega)) (fun j hj ci fs hg => hP (7 + 4 * j) (by omega) _ hg), fun k hk => (k3 k hk).fr hx (fun i hi => hP (7 + 4 * k + i) (by omega)) h6, ⟨g, k4.fr hx (hP 2 (by omega)) (hP 6 (by omega)) (fun j hj ci fs hg => ?_), fun j hj => hx.2 _ _ (k5 j hj) (h8 _ _ (k5 j hj))⟩, ⟨c, hx.2 _ _ k6 (hP 3 (by omega) _ k6), k7⟩, ⟨c2, hx.2 _ _ k8 (hP 4 (by omega) _ k8), k9⟩, k10⟩
  have := k5 j hj
  rw [hg] at this
  cases this
  exact h8 _ _ hg
theorem yd_W.x {K : co_K} {h h' : pb_H} {A : Nat → Nat} {f : Nat → Int} (hW : yd_W K h A f) (hx : fr_x h h') : yd_W K h' A f := hW.fr hx (fun _ _ _ _ => trivial) (fun _ _ _ => trivial) (fun _ _ _ => trivial)
theorem ya_ok.hu {t : Nat} {f : Nat → Int} (h : ya_ok t f) {k : Nat} (hk : k < 6) : hu_ok f k := ⟨h.hok hk, by have := h.num; omega⟩
theorem ya_ok.hu2 {t : Nat} {f : Nat → Int} (h : ya_ok t f) {k : Nat} (hk : k < (f 0).toNat) : hu_ok f k := h.hu (by have := h.num; omega)
section YARD
variable {G : pb_G} {K : co_K} {h : pb_H} {A : Nat → Nat} {f : Nat → Int} {t : Nat}
theorem ck_argE {N o : Nat} {g : Nat → Int} (hG : co_G G K) (ha : h.2 o = some (pb_aI 1 N g)) (hN : N ≤ 10) (hg : ∀ j, j < N → g j = 0 ∨ g j = 1) (hz : ¬ ∀ j, j < N → g j = 1) : pb_Ctr G mX7_argument 6 1 6 [pb_r o] h (th_Q xIAE h) := by
  have key : ∀ m, m ≤ N → (∀ j, j < m → g j = 1) ∨ ∃ p, p < m ∧ g p = 0 ∧ ∀ j, j < p → g j = 1 := by
    intro m
    induction m with
    | zero => exact fun _ => Or.inl (fun j hj => absurd hj (Nat.not_lt_zero _))
    | succ m ih =>
      intro hm
      rcases ih (by omega) with h1 | ⟨p, h1, h2, h3⟩
      · rcases hg m (by omega) with h2 | h2
        · exact Or.inr ⟨m, by omega, h2, h1⟩
        · refine Or.inl (fun j hj => ?_)
          by_cases c : j = m
          · rw [c]; exact h2
          · exact h1 j (by omega)
      · exact Or.inr ⟨p, by omega, h2, h3⟩
  rcases key N (by omega) with h1 | ⟨p, h1, h2, h3⟩
  · exact absurd h1 hz
  · exact ck_arg0 hG ha hN p h1 h2 h3
theorem yd_hull1 (hW : yd_W K h A f) (ok : ya_ok t f) (z : Int) (hz : 0 ≤ z ∧ z < f 0) : pb_Ctr G mX2_hull 3 0 0 [pb_r (A 0), pb_i z] h (pb_P (some (pb_r (A (7 + 4 * z.toNat)))) h) := by
  have hn := ok.num
  obtain ⟨fs, ho⟩ := hW.2.1.obj
  obtain ⟨j, rfl⟩ := Int.eq_ofNat_of_zero_le hz.1
  rw [Int.toNat_natCast]
  refine pb_Ctr.of rfl rfl rfl tX2_hull_ok rfl ?_
  (try refine pb_Ex.run rfl ?_)
  refine pb_Ex.getf rfl rfl hW.1 rfl ?_
  (try refine pb_Ex.run rfl ?_)
  refine pb_Ex.pV rfl rfl rfl rfl (ho) rfl rfl (ja_size hW.2.1) (by omega) (by omega) (by omega) ?_
  (try refine pb_Ex.run rfl ?_)
  refine pb_Ex.pS rfl rfl rfl rfl (ck_bt (j : Int) 0 _ (by omega) (by omega) (by omega)) (by omega) (by omega) (by omega) ?_
  (try refine pb_Ex.run rfl ?_)
  rw [if_pos (by omega)]
  refine pb_Ex.pS rfl rfl rfl rfl (ck_ix1) (by omega) (by omega) (by omega) ?_
  (try refine pb_Ex.run rfl ?_)
  refine pb_Ex.getf rfl rfl hW.1 rfl ?_
  (try refine pb_Ex.run rfl ?_)
  refine pb_Ex.pV rfl rfl rfl rfl (ho) rfl rfl (ja_get hW.2.1 j (by omega)) (by omega) (by omega) (by omega) ?_
  (try refine pb_Ex.run rfl ?_)
  refine pb_Ex.cast0 rfl rfl ((hW.2.2.1 j (by omega)).1) (fun r hr => by cases hr; rfl) ?_
  (try refine pb_Ex.run rfl ?_)
  refine pb_Ex.aret rfl rfl (by first | exact Or.inl ⟨_, rfl⟩ | exact Or.inr ⟨_, rfl⟩) (by omega) (by omega) (⟨rfl, rfl⟩)
theorem yd_hull0 (hG : co_G G K) (hW : yd_W K h A f) (ok : ya_ok t f) (z : Int) (hr : pb_rg z) (hz : ¬ (0 ≤ z ∧ z < f 0)) : pb_Ctr G mX2_hull 7 1 6 [pb_r (A 0), pb_i z] h (th_Q xIOB h) := by
  have hn := ok.num
  obtain ⟨fs, ho⟩ := hW.2.1.obj
  refine pb_Ctr.of rfl rfl rfl tX2_hull_ok rfl ?_
  (try refine pb_Ex.run rfl ?_)
  refine pb_Ex.getf rfl rfl hW.1 rfl ?_
  (try refine pb_Ex.run rfl ?_)
  refine pb_Ex.pV rfl rfl rfl rfl (ho) rfl rfl (ja_size hW.2.1) (by omega) (by omega) (by omega) ?_
  (try refine pb_Ex.run rfl ?_)
  refine pb_Ex.pS rfl rfl rfl rfl (ck_bt z 0 _ (by omega) (by omega) (by omega)) (by omega) (by omega) (by omega) ?_
  (try refine pb_Ex.run rfl ?_)
  rw [if_neg (by omega)]
  refine pb_Ex.tS rfl rfl rfl rfl (ck_ix0 hG) (by omega) (by omega) (by omega) (fun q h1 hx1 => pb_Xx.out rfl (by omega) (by omega) ?_)
  exact ⟨q, rfl, hx1.ho (by omega)⟩
theorem yd_seam1 (hW : yd_W K h A f) (ok : ya_ok t f) (z y : Int) (hz : 0 ≤ z ∧ z < f 0) (hy : 0 ≤ y ∧ y < ya_se f z.toNat) : pb_Ctr G mX2_hullWithSeam 4 0 0 [pb_r (A 0), pb_i z, pb_i y] h (pb_P (some (pb_r (A (7 + 4 * z.toNat)))) h) := by
  have hn := ok.num
  have hh := hW.2.2.1 z.toNat (by omega)
  have oh : hu_ok f z.toNat := ok.hu (by omega)
  have := oh.nn
  have hse : ya_se f z.toNat ≤ 7 := by unfold ya_se; omega
  refine pb_Ctr.of rfl rfl rfl tX2_hullWithSeam_ok rfl ?_
  (try refine pb_Ex.run rfl ?_)
  refine pb_Ex.pV rfl rfl rfl rfl (hW.1) rfl rfl (yd_hull1 hW ok z hz) (by omega) (by omega) (by omega) ?_
  (try refine pb_Ex.run rfl ?_)
  refine pb_Ex.pV rfl rfl rfl rfl (hh.1) rfl rfl (hu_seams hh oh) (by omega) (by omega) (by omega) ?_
  (try refine pb_Ex.run rfl ?_)
  refine pb_Ex.pS rfl rfl rfl rfl (ck_bt y 0 _ (by omega) (by omega) (by omega)) (by omega) (by omega) (by omega) ?_
  (try refine pb_Ex.run rfl ?_)
  rw [if_pos (by omega)]
  refine pb_Ex.pS rfl rfl rfl rfl (ck_ix1) (by omega) (by omega) (by omega) ?_
  (try refine pb_Ex.run rfl ?_)
  refine pb_Ex.aret rfl rfl (by first | exact Or.inl ⟨_, rfl⟩ | exact Or.inr ⟨_, rfl⟩) (by omega) (by omega) (⟨rfl, rfl⟩)
theorem yd_seam0 (hG : co_G G K) (hW : yd_W K h A f) (ok : ya_ok t f) (z y : Int) (hr : pb_rg z) (hr2 : pb_rg y) (hz : ¬ ((0 ≤ z ∧ z < f 0) ∧ 0 ≤ y ∧ y < ya_se f z.toNat)) : pb_Ctr G mX2_hullWithSeam 8 1 6 [pb_r (A 0), pb_i z, pb_i y] h (th_Q xIOB h) := by
  have hn := ok.num
  refine pb_Ctr.of rfl rfl rfl tX2_hullWithSeam_ok rfl ?_
  (try refine pb_Ex.run rfl ?_)
  by_cases c : 0 ≤ z ∧ z < f 0
  · have hh := hW.2.2.1 z.toNat (by omega)
    have oh : hu_ok f z.toNat := ok.hu (by omega)
    have := oh.nn
    have hse : ya_se f z.toNat ≤ 7 := by unfold ya_se; omega
    refine pb_Ex.pV rfl rfl rfl rfl (hW.1) rfl rfl (yd_hull1 hW ok z c) (by omega) (by omega) (by omega) ?_
    (try refine pb_Ex.run rfl ?_)
    refine pb_Ex.pV rfl rfl rfl rfl (hh.1) rfl rfl (hu_seams hh oh) (by omega) (by omega) (by omega) ?_
    (try refine pb_Ex.run rfl ?_)
    refine pb_Ex.pS rfl rfl rfl rfl (ck_bt y 0 _ (by omega) (by omega) (by omega)) (by omega) (by omega) (by omega) ?_
    (try refine pb_Ex.run rfl ?_)
    rw [if_neg (by omega)]
    refine pb_Ex.tS rfl rfl rfl rfl (ck_ix0 hG) (by omega) (by omega) (by omega) (fun q h1 hx1 => pb_Xx.out rfl (by omega) (by omega) ?_)
    exact ⟨q, rfl, hx1.ho (by omega)⟩
  · refine pb_Ex.tV rfl rfl rfl rfl (hW.1) rfl rfl (yd_hull0 hG hW ok z hr c) (by omega) (by omega) (by omega) (fun q h1 hx1 => pb_Xx.out rfl (by omega) (by omega) ?_)
    exact ⟨q, rfl, hx1.ho (by omega)⟩
theorem yd_tide (hW : yd_W K h A f) (z : Int) (hz : 0 ≤ z ∧ z < 2147483648) : pb_Ctr G mX2_tide 0 0 0 [pb_r (A 0), pb_i z] h (pb_P (some (pb_i (f (5 + (z % 12).toNat)))) h) := by
  obtain ⟨c, k6, k7⟩ := hW.2.2.2.2.1
  refine pb_Ctr.of rfl rfl rfl tX2_tide_ok rfl ?_
  (try refine pb_Ex.run rfl ?_)
  refine pb_Ex.getf rfl rfl hW.1 rfl ?_
  (try refine pb_Ex.run rfl ?_)
  refine pb_Ex.irem rfl hz (by omega) ?_
  (try refine pb_Ex.run rfl ?_)
  refine pb_Ex.iat ((z % 12).toNat) rfl (k6) (by omega) (by omega) ?_
  (try refine pb_Ex.run rfl ?_)
  rw [k7 _ (by omega)]
  refine pb_Ex.iret rfl rfl (by omega) (by omega) (⟨rfl, rfl⟩)
theorem yd_fits (hG : co_G G K) (hW : yd_W K h A f) (ok : ya_ok t f) (k i : Nat) (hk : k < (f 0).toNat) (hi : i < 4) : pb_Ctr G mX2_fits 3 0 0 [pb_r (A 0), pb_i k, pb_i i] h (pb_P (some (pb_i (if f (21 + 28 * k) = 0 ∧ 2 ≤ f (22 + 28 * k) ∧ f (22 + 28 * k) ≤ f (17 + i) then 1 else 0))) h) := by
  have hn := ok.num
  obtain ⟨fs, ho⟩ := hW.2.1.obj
  have hh := hW.2.2.1 k hk
  have oh := ok.hu2 hk
  have h9 := oh.nn
  obtain ⟨c, k6, k7⟩ := hW.2.2.2.2.2.1
  have hs := ok.sli hi
  refine pb_Ctr.of rfl rfl rfl tX2_fits_ok rfl ?_
  (try refine pb_Ex.run rfl ?_)
  refine pb_Ex.getf rfl rfl hW.1 rfl ?_
  (try refine pb_Ex.run rfl ?_)
  refine pb_Ex.pV rfl rfl rfl rfl (ho) rfl rfl (ja_get hW.2.1 k hk) (by omega) (by omega) (by omega) ?_
  (try refine pb_Ex.run rfl ?_)
  refine pb_Ex.cast0 rfl rfl (hh.1) (fun r hr => by cases hr; rfl) ?_
  (try refine pb_Ex.run rfl ?_)
  refine pb_Ex.gets rfl (hG.2.2.2.2.1 0 (by omega)).1 q327 ?_
  (try refine pb_Ex.run rfl ?_)
  refine pb_Ex.pV rfl rfl rfl rfl (hh.1) rfl rfl (hu_is hG hh oh 0 (by omega)) (by omega) (by omega) (by omega) ?_
  (try refine pb_Ex.run rfl ?_)
  by_cases c1 : f (21 + 28 * k) = 0
  · rw [if_pos (show f (21 + 28 * k) = (0 : Nat) from c1)]
    refine pb_Ex.ifF rfl (by omega) (by first | decide | (simp only [pb_cmp]; omega) | simp [pb_cmp]) ?_
    (try refine pb_Ex.run rfl ?_)
    refine pb_Ex.pV rfl rfl rfl rfl (hh.1) rfl rfl (hu_size hh) (by omega) (by omega) (by omega) ?_
    (try refine pb_Ex.run rfl ?_)
    refine pb_Ex.icmp_lt rfl (by omega) (by omega) (fun c2 => ?_) (fun c2 => ?_)
    · refine pb_Ex.run rfl ?_
      rw [if_neg (by omega)]
      refine pb_Ex.zret (ty := .boolean) rfl rfl (pb_nb (Or.inl rfl)).1 (by omega) (by omega) (⟨rfl, rfl⟩)
    · refine pb_Ex.run rfl ?_
      refine pb_Ex.getf rfl rfl hW.1 rfl ?_
      (try refine pb_Ex.run rfl ?_)
      refine pb_Ex.iat (i) rfl (k6) (by omega) (by omega) ?_
      (try refine pb_Ex.run rfl ?_)
      rw [k7 i hi]
      refine pb_Ex.pV rfl rfl rfl rfl (hh.1) rfl rfl (hu_size hh) (by omega) (by omega) (by omega) ?_
      (try refine pb_Ex.run rfl ?_)
      refine pb_Ex.icmp_lt rfl (by omega) (by omega) (fun c3 => ?_) (fun c3 => ?_)
      · refine pb_Ex.run rfl ?_
        rw [if_neg (by omega)]
        refine pb_Ex.zret (ty := .boolean) rfl rfl (pb_nb (Or.inl rfl)).1 (by omega) (by omega) (⟨rfl, rfl⟩)
      · refine pb_Ex.run rfl ?_
        rw [if_pos (by omega)]
        refine pb_Ex.zret (ty := .boolean) rfl rfl (pb_nb (Or.inr rfl)).1 (by omega) (by omega) (⟨rfl, rfl⟩)
  · rw [if_neg (show ¬ f (21 + 28 * k) = (0 : Nat) from c1)]
    refine pb_Ex.ifT rfl (by omega) (by first | decide | (simp only [pb_cmp]; omega) | simp [pb_cmp]) ?_
    (try refine pb_Ex.run rfl ?_)
    rw [if_neg (by omega)]
    refine pb_Ex.zret (ty := .boolean) rfl rfl (pb_nb (Or.inl rfl)).1 (by omega) (by omega) (⟨rfl, rfl⟩)
theorem yd_order1 {g : Nat → Nat} (hW : yd_W K h A f) (hO : yd_O K h A f g) (ok : ya_ok t f) (id : Int) (hr : pb_rg id) (hz : sp_find f id ≠ -1) : pb_Ctr G mX2_order 3 0 0 [pb_r (A 0), pb_i id] h (pb_P (some (pb_r (g (sp_find f id).toNat))) h) := by
  have hn := ok.num
  obtain ⟨hO1, hO2⟩ := hO
  obtain ⟨fs, ho⟩ := hO1.obj
  refine pb_Ctr.of rfl rfl rfl tX2_order_ok rfl ?_
  (try refine pb_Ex.run rfl ?_)
  have loop : ∀ (d j : Nat) (z : Int), j + d = (f 2).toNat → z = j → sp_find f id = sp_fd f id j d → pb_Ex G mX2_order 3 0 0 (pb_P (some (pb_r (g (sp_find f id).toNat))) h) 0 0 2 [some (pb_r (A 0)), some (pb_i id), some (pb_i z)] [] h := by
    intro d
    induction d with
    | zero => intro j z hj hz2 hs; exact absurd hs hz
    | succ d ih =>
      intro j z hj hz2 hs
      subst hz2
      have oj := ok.ord (k := j) (by omega) (by omega)
      refine pb_Ex.run rfl ?_
      refine pb_Ex.getf rfl rfl hW.1 rfl ?_
      (try refine pb_Ex.run rfl ?_)
      refine pb_Ex.pV rfl rfl rfl rfl (ho) rfl rfl (ja_size hO1) (by omega) (by omega) (by omega) ?_
      (try refine pb_Ex.run rfl ?_)
      refine pb_Ex.icmpF rfl (by omega) (by omega) (by first | decide | (simp only [pb_cmp]; omega) | simp [pb_cmp]) ?_
      (try refine pb_Ex.run rfl ?_)
      refine pb_Ex.getf rfl rfl hW.1 rfl ?_
      (try refine pb_Ex.run rfl ?_)
      refine pb_Ex.pV rfl rfl rfl rfl (ho) rfl rfl (ja_get hO1 j (by omega)) (by omega) (by omega) (by omega) ?_
      (try refine pb_Ex.run rfl ?_)
      refine pb_Ex.cast0 rfl rfl ((hO2 j (by omega))) (fun r hr => by cases hr; rfl) ?_
      (try refine pb_Ex.run rfl ?_)
      refine pb_Ex.getf rfl rfl (hO2 j (by omega)) rfl ?_
      (try refine pb_Ex.run rfl ?_)
      refine pb_Ex.icmp_ne rfl (by omega) (by omega) (fun c => ?_) (fun c => ?_)
      · refine pb_Ex.run rfl ?_
        refine ih (j + 1) _ (by omega) (by omega) ?_
        rw [hs]
        show (if f (189 + 4 * j) = id then (j : Int) else sp_fd f id (j + 1) d) = _
        rw [if_neg c]
      · refine pb_Ex.run rfl ?_
        refine pb_Ex.getf rfl rfl hW.1 rfl ?_
        (try refine pb_Ex.run rfl ?_)
        refine pb_Ex.pV rfl rfl rfl rfl (ho) rfl rfl (ja_get hO1 j (by omega)) (by omega) (by omega) (by omega) ?_
        (try refine pb_Ex.run rfl ?_)
        refine pb_Ex.cast0 rfl rfl ((hO2 j (by omega))) (fun r hr => by cases hr; rfl) ?_
        (try refine pb_Ex.run rfl ?_)
        have e : sp_find f id = j := by
          rw [hs]
          show (if f (189 + 4 * j) = id then (j : Int) else sp_fd f id (j + 1) d) = _
          rw [if_pos (by omega)]
        rw [e, Int.toNat_natCast]
        refine pb_Ex.aret rfl rfl (by first | exact Or.inl ⟨_, rfl⟩ | exact Or.inr ⟨_, rfl⟩) (by omega) (by omega) (⟨rfl, rfl⟩)
  exact loop _ 0 0 (by omega) rfl rfl
theorem yd_order0 (hG : co_G G K) (hW : yd_W K h A f) (ok : ya_ok t f) (id : Int) (hr : pb_rg id) (hz : sp_find f id = -1) : pb_Ctr G mX2_order 6 1 6 [pb_r (A 0), pb_i id] h (th_Q xNSE h) := by
  have hn := ok.num
  obtain ⟨g, hO1, hO2⟩ := hW.2.2.2.1
  obtain ⟨fs, ho⟩ := hO1.obj
  refine pb_Ctr.of rfl rfl rfl tX2_order_ok rfl ?_
  (try refine pb_Ex.run rfl ?_)
  have loop : ∀ (d j : Nat) (z : Int), j + d = (f 2).toNat → z = j → sp_find f id = sp_fd f id j d → pb_Ex G mX2_order 6 1 6 (th_Q xNSE h) 0 0 2 [some (pb_r (A 0)), some (pb_i id), some (pb_i z)] [] h := by
    intro d
    induction d with
    | zero =>
      intro j z hj hz2 hs
      refine pb_Ex.run rfl ?_
      refine pb_Ex.getf rfl rfl hW.1 rfl ?_
      (try refine pb_Ex.run rfl ?_)
      refine pb_Ex.pV rfl rfl rfl rfl (ho) rfl rfl (ja_size hO1) (by omega) (by omega) (by omega) ?_
      (try refine pb_Ex.run rfl ?_)
      refine pb_Ex.icmpT rfl (by omega) (by omega) (by first | decide | (simp only [pb_cmp]; omega) | simp [pb_cmp]) ?_
      refine pb_Ex.thr pb_xNSE hG.2.2.1 rfl rfl rfl rfl rfl rfl rfl (by omega) (by omega) (by omega) (fun sz hsz => pb_Xx.out rfl (by omega) (by omega) ?_)
      exact ⟨_, rfl, fr_x.rf.ho (by omega)⟩
    | succ d ih =>
      intro j z hj hz2 hs
      subst hz2
      have oj := ok.ord (k := j) (by omega) (by omega)
      have hs2 : sp_fd f id j (d + 1) = if f (189 + 4 * j) = id then (j : Int) else sp_fd f id (j + 1) d := rfl
      have c : f (189 + 4 * j) ≠ id := by
        intro c
        rw [if_pos c] at hs2
        omega
      rw [if_neg c] at hs2
      refine pb_Ex.run rfl ?_
      refine pb_Ex.getf rfl rfl hW.1 rfl ?_
      (try refine pb_Ex.run rfl ?_)
      refine pb_Ex.pV rfl rfl rfl rfl (ho) rfl rfl (ja_size hO1) (by omega) (by omega) (by omega) ?_
      (try refine pb_Ex.run rfl ?_)
      refine pb_Ex.icmpF rfl (by omega) (by omega) (by first | decide | (simp only [pb_cmp]; omega) | simp [pb_cmp]) ?_
      (try refine pb_Ex.run rfl ?_)
      refine pb_Ex.getf rfl rfl hW.1 rfl ?_
      (try refine pb_Ex.run rfl ?_)
      refine pb_Ex.pV rfl rfl rfl rfl (ho) rfl rfl (ja_get hO1 j (by omega)) (by omega) (by omega) (by omega) ?_
      (try refine pb_Ex.run rfl ?_)
      refine pb_Ex.cast0 rfl rfl ((hO2 j (by omega))) (fun r hr => by cases hr; rfl) ?_
      (try refine pb_Ex.run rfl ?_)
      refine pb_Ex.getf rfl rfl (hO2 j (by omega)) rfl ?_
      (try refine pb_Ex.run rfl ?_)
      refine pb_Ex.icmpT rfl (by omega) (by omega) (by first | decide | (simp only [pb_cmp]; omega) | simp [pb_cmp]) ?_
      (try refine pb_Ex.run rfl ?_)
      refine ih (j + 1) _ (by omega) (by omega) (by omega)
  exact loop _ 0 0 (by omega) rfl rfl
end YARD
