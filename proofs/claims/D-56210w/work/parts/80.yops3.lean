set_option maxRecDepth 100000
section OPS3
variable {G : pb_G} {K : co_K} {h : pb_H} {A : Nat → Nat} {f : Nat → Int} {t lo : Nat}
def ex_st : Int → String := fun _ => xISE
theorem yd_beginHull (hG : co_G G K) (hK : co_W K h) (hW : yd_W K h A f) (ok : ya_ok t f) (hJ : yd_J K A (f 0).toNat lo) (hlo : lo ≤ h.1) (hD : ∀ x, h.1 ≤ x → co_D K x) : pb_Ctr G mX2_beginHull 8 4 32 [pb_r (A 0)] h (yd_Q K h A lo ex_st (sp_hull f)) := by
  have hn := ok.num
  obtain ⟨mc, ho⟩ := hW.2.1.obj
  unfold sp_hull
  refine pb_Ctr.of rfl rfl rfl tX2_beginHull_ok rfl ?_
  (try refine pb_Ex.run rfl ?_)
  refine pb_Ex.fin (fun hf => ?_)
  refine pb_Ex.getf rfl rfl hW.1 rfl ?_
  (try refine pb_Ex.run rfl ?_)
  refine pb_Ex.pV rfl rfl rfl rfl (ho) rfl rfl (ja_size hW.2.1) (by omega) (by omega) (by omega) ?_
  (try refine pb_Ex.run rfl ?_)
  refine pb_Ex.icmp_ge rfl (by omega) (by omega) (fun c => ?_) (fun c => ?_)
  · rw [if_pos (show f 0 = 6 by omega)]
    refine pb_Ex.run rfl ?_
    refine pb_Ex.tS rfl rfl rfl rfl (ck_st0 hG) (by omega) (by omega) (by omega) (fun q h1 hx1 => pb_Xx.out rfl (by omega) (by omega) ?_)
    exact yd_Q.no (ex := ex_st) (fr_P.ho (fr_x.P hx1) (by omega)) (by decide)
  · rw [if_neg (show ¬ f 0 = 6 by omega)]
    obtain ⟨n, hn0⟩ : ∃ n, (f 0).toNat = n := ⟨_, rfl⟩
    refine pb_Ex.run rfl ?_
    refine pb_Ex.pS rfl rfl rfl rfl (ck_st1) (by omega) (by omega) (by omega) ?_
    (try refine pb_Ex.run rfl ?_)
    refine pb_Ex.getf rfl rfl hW.1 rfl ?_
    (try refine pb_Ex.run rfl ?_)
    refine pb_Ex.new 5 6 RX6 TX6 [pb_i 0, pb_0, pb_0, pb_0, pb_i 0, pb_i 0] rfl rfl rfl rfl (fun j hj => by
      have hj : j < 6 := hj
      match j, hj with
      | 0, _ => rfl
      | 1, _ => rfl
      | 2, _ => rfl
      | 3, _ => rfl
      | 4, _ => rfl
      | 5, _ => rfl) (by omega) (by omega) ?_
    refine pb_Ex.run rfl ?_
    have hqE := hK.1
    obtain ⟨qE, hqE⟩ := hqE
    have hEl := hf _ _ hqE
    have nE1 := yd_E hK hW 1 (by omega)
    have x3 : fr_x h (pb_new h (pb_ob 5 [pb_i 0, pb_0, pb_0, pb_0, pb_i 0, pb_i 0])) := fr_x.rf.nw hf _
    have s3 : (pb_new h (pb_ob 5 [pb_i 0, pb_0, pb_0, pb_0, pb_i 0, pb_i 0])).1 = h.1 + 1 := rfl
    have b3 : (pb_new h (pb_ob 5 [pb_i 0, pb_0, pb_0, pb_0, pb_i 0, pb_i 0])).2 h.1 = some (pb_ob 5 [pb_i 0, pb_0, pb_0, pb_0, pb_i 0, pb_i 0]) := pb_new_same
    generalize pb_new h (pb_ob 5 [pb_i 0, pb_0, pb_0, pb_0, pb_i 0, pb_i 0]) = h3 at x3 s3 b3 ⊢
    have hW3 := hW.x x3
    obtain ⟨mc3, ho3⟩ := hW3.2.1.obj
    refine pb_Ex.getf rfl rfl hW3.1 rfl ?_
    (try refine pb_Ex.run rfl ?_)
    refine pb_Ex.pV rfl rfl rfl rfl (ho3) rfl rfl (ja_size hW3.2.1) (by omega) (by omega) (by omega) ?_
    (try refine pb_Ex.run rfl ?_)
    refine pb_Ex.cIo rfl rfl rfl rfl (hu_init2 (k := (f 0).toNat) (f := f) hG (hK.x hG x3) b3 (fun j hj => ok.zer (by omega) (by omega) hj) (hD _ (by omega))) (by omega) (by omega) (by omega) (fun h4 e1 => ?_)
    obtain ⟨s4, hH, x4⟩ := e1
    rw [s3] at s4 hH x4
    (try refine pb_Ex.run rfl ?_)
    have keep4 : ∀ b c, h.2 b = some c → h4.2 b = some c := fun b c hb => by
      have := hf b c hb
      rw [x4 b (by omega) (by omega)]
      exact x3.at hb
    have x24 : fr_x h h4 := ⟨by omega, fun b c hb _ => keep4 b c hb⟩
    have hL4 := hW.2.1.x x24
    obtain ⟨mc4, ho4⟩ := hL4.obj
    have lt := yd_lt hf hW
    have t0 := lt 0 (by omega)
    have t1 := lt 1 (by omega)
    have t5 := lt 5 (by omega)
    refine pb_Ex.cV rfl rfl rfl rfl ho4 rfl rfl (ja_add hG (hK.x hG x24) hL4 (by omega) hH.1 (by decide)) ⟨by omega, by omega, by omega⟩ (fun v h5 hq => ?_) (fun E q9 h2 hq => by cases hq.1)
    obtain ⟨d1, e', d2, d3, d4, d5, d6⟩ := hq
    cases d1
    (try refine pb_Ex.run rfl ?_)
    have fr25 : fr_P (fun b _ => b ≠ A 1 ∧ (b ≠ A 5 ∨ b = co_E K)) h h5 := ⟨by have := d6.1; omega, fun b c hb hp => d6.2 b c (keep4 b c hb) hp⟩
    rw [hn0] at hH d2
    have hHf : hu_W K h5 (hu_B h.1 (h.1 + 1) (h.1 + 1 + 1) (co_E K)) n f := by
      refine hH.fr d6 (fun i hi c hc => ?_) (fun b fs hb => ?_)
      · match i, hi with
        | 0, _ => exact ⟨by show h.1 ≠ _; omega, Or.inl (by show h.1 ≠ _; omega)⟩
        | 1, _ => exact ⟨by show h.1 + 1 ≠ _; omega, Or.inl (by show h.1 + 1 ≠ _; omega)⟩
        | 2, _ => exact ⟨by show h.1 + 1 + 1 ≠ _; omega, Or.inl (by show h.1 + 1 + 1 ≠ _; omega)⟩
        | 3, _ => exact ⟨by show co_E K ≠ _; exact Ne.symm nE1, Or.inr rfl⟩
      · obtain ⟨mc5, cap5, q5, r1, r2, -⟩ := id hL4
        refine ⟨fun z => ?_, Or.inl (fun z => ?_)⟩
        · rw [z, r1] at hb; cases hb
        · rw [z, r2] at hb; cases hb
    have n8n : ya_n f n ≤ 8 := (ok.nn (k := n) (by omega)).2
    have hH5 : hu_W K h5 (hu_B h.1 (h.1 + 1) (h.1 + 1 + 1) (co_E K)) n (va_up f 0 (f 0 + 1)) := hHf.cg n8n (fun i hi => va_upN _ _ (by omega))
    have W5 := yd_W.addH (f' := va_up f 0 (f 0 + 1)) hW hJ hn0 fr25 d2 hH5 (fun j hj => ok.n8 j (by omega)) (fun i hi _ => va_upN _ _ hi) (by rw [va_upS]; omega) (by omega) (by omega) nE1
    have o5 := W5.1
    have e0 : yd_A A n e' (hu_B h.1 (h.1 + 1) (h.1 + 1 + 1) (co_E K)) 0 = A 0 := yd_A.lo (by omega) (by omega)
    have e1 : yd_A A n e' (hu_B h.1 (h.1 + 1) (h.1 + 1 + 1) (co_E K)) 1 = A 1 := yd_A.lo (by omega) (by omega)
    rw [e0, e1] at o5
    refine pb_Ex.getf rfl rfl o5 rfl ?_
    (try refine pb_Ex.run rfl ?_)
    obtain ⟨mc5, ho5⟩ := d2.obj
    refine pb_Ex.pV rfl rfl rfl rfl (ho5) rfl rfl (ja_size d2) (by omega) (by omega) (by omega) ?_
    (try refine pb_Ex.run rfl ?_)
    rw [show ((n + 1 : Nat) : Int) - 1 = f 0 by omega]
    refine pb_Ex.iret rfl rfl (by omega) (by omega) (yd_Q.ok (A' := yd_A A n e' (hu_B h.1 (h.1 + 1) (h.1 + 1 + 1) (co_E K))) (fr25.mono (fun b c hb hl => ?_)) e0 W5 ?_)
    · have hl : b < lo := hl
      have g1 := yd_ge hJ (i := 1) (by omega) nE1
      refine ⟨by omega, ?_⟩
      rcases hJ.2 5 (by omega) with z | z
      · exact Or.inl (by omega)
      · by_cases q : b = A 5
        · exact Or.inr (q.trans z)
        · exact Or.inl q
    · rw [va_upS, show (f 0 + 1).toNat = n + 1 by omega]
      rw [hn0] at hJ lt
      refine hJ.addH (x0 := h.1) lt (by omega) (fun i hi => ?_) (fun i i' hii hi' e => ?_) (fun i hi e => ?_) hlo
      · match i, hi with
        | 0, _ => exact Or.inl (Nat.le_refl _)
        | 1, _ => exact Or.inl (by show _ ≤ h.1 + 1; omega)
        | 2, _ => exact Or.inl (by show _ ≤ h.1 + 1 + 1; omega)
        | 3, _ => exact Or.inr rfl
      · match i', i, hii, hi' with
        | 1, 0, _, _ => exact absurd e (by show h.1 ≠ h.1 + 1; omega)
        | 2, 0, _, _ => exact absurd e (by show h.1 ≠ h.1 + 1 + 1; omega)
        | 2, 1, _, _ => exact absurd e (by show h.1 + 1 ≠ h.1 + 1 + 1; omega)
        | 3, 0, _, _ => exact absurd e (by show h.1 ≠ co_E K; omega)
        | 3, 1, _, _ => exact absurd e (by show h.1 + 1 ≠ co_E K; omega)
        | 3, 2, _, _ => exact absurd e (by show h.1 + 1 + 1 ≠ co_E K; omega)
      · match i, hi with
        | 0, _ => have e : e' = h.1 := e; omega
        | 1, _ => have e : e' = h.1 + 1 := e; omega
        | 2, _ => have e : e' = h.1 + 1 + 1 := e; omega
        | 3, _ => exact e
theorem yd_addFrame (hG : co_G G K) (hK : co_W K h) (hW : yd_W K h A f) (ok : ya_ok t f) (hJ : yd_J K A (f 0).toNat lo) (hlo : lo ≤ h.1) (z l r : Int) (hz : pb_rg z) (hl : pb_rg l) (hr : pb_rg r) : pb_Ctr G mX2_addFrame 8 3 19 [pb_r (A 0), pb_i z, pb_i l, pb_i r] h (yd_Q K h A lo ex_hull (sp_frame f z l r)) := by
  have hn := ok.num
  unfold sp_frame
  refine pb_Ctr.of rfl rfl rfl tX2_addFrame_ok rfl ?_
  (try refine pb_Ex.run rfl ?_)
  refine pb_Ex.fin (fun hf => ?_)
  by_cases cz : 0 ≤ z ∧ z < f 0
  · rw [if_neg (not_not_intro cz)]
    obtain ⟨k, rfl⟩ := Int.eq_ofNat_of_zero_le cz.1
    rw [Int.toNat_natCast]
    have hk : k < (f 0).toNat := by omega
    have oh := ok.hu2 hk
    have hnn := oh.nn
    refine pb_Ex.pV rfl rfl rfl rfl (hW.1) rfl rfl (yd_hull1 hW ok k cz) (by omega) (by omega) (by omega) ?_
    (try refine pb_Ex.run rfl ?_)
    rw [Int.toNat_natCast]
    refine pb_Ex.newZ 2 rfl rfl (by omega) (by omega) (by omega) ?_
    (try refine pb_Ex.run rfl ?_)
    refine pb_Ex.pS rfl rfl rfl rfl (ck_bt (l) (1) (30) (by omega) (by omega) (by omega)) (by omega) (by omega) (by omega) ?_
    obtain ⟨v1, hv1, iv1⟩ := bt_ex (1 ≤ l ∧ l ≤ 30)
    rw [← hv1]
    (try refine pb_Ex.run rfl ?_)
    refine pb_Ex.zstat (0) rfl (pb_new_same) (by omega) (by omega) (by omega) ?_
    (try refine pb_Ex.run rfl ?_)
    refine pb_Ex.pS rfl rfl rfl rfl (ck_bt (r) (1) (30) (by omega) (by omega) (by omega)) (by omega) (by omega) (by omega) ?_
    obtain ⟨v2, hv2, iv2⟩ := bt_ex (1 ≤ r ∧ r ≤ 30)
    rw [← hv2]
    (try refine pb_Ex.run rfl ?_)
    refine pb_Ex.zstat (1) rfl (pb_set_same) (by omega) (by omega) (by omega) ?_
    (try refine pb_Ex.run rfl ?_)
    have x2 : fr_x h (pb_set (pb_set (pb_new h (pb_aI 1 2 fun _ => 0)) h.1 (pb_aI 1 2 (va_up (fun _ => 0) 0 v1))) h.1 (pb_aI 1 2 (va_up (va_up (fun _ => 0) 0 v1) 1 v2))) := ((fr_x.rf.nw hf _).st hf _ (Nat.le_refl _)).st hf _ (Nat.le_refl _)
    have b2 : (pb_set (pb_set (pb_new h (pb_aI 1 2 fun _ => 0)) h.1 (pb_aI 1 2 (va_up (fun _ => 0) 0 v1))) h.1 (pb_aI 1 2 (va_up (va_up (fun _ => 0) 0 v1) 1 v2))).2 h.1 = some (pb_aI 1 2 (va_up (va_up (fun _ => 0) 0 v1) 1 v2)) := pb_set_same
    generalize pb_set (pb_set (pb_new h (pb_aI 1 2 fun _ => 0)) h.1 (pb_aI 1 2 (va_up (fun _ => 0) 0 v1))) h.1 (pb_aI 1 2 (va_up (va_up (fun _ => 0) 0 v1) 1 v2)) = h2 at x2 b2 ⊢
    have ar := ar_2 iv1.1 iv2.1
    by_cases c : (1 ≤ l ∧ l ≤ 30) ∧ 1 ≤ r ∧ r ≤ 30
    · rw [if_neg (not_not_intro c)]
      refine pb_Ex.pS rfl rfl rfl rfl (ck_arg1 b2 (by omega) (ar.2.mpr ⟨iv1.2.mpr c.1, iv2.2.mpr c.2⟩)) (by omega) (by omega) (by omega) ?_
      (try refine pb_Ex.run rfl ?_)
      have hW2 := hW.x x2
      have hK2 := hK.x hG x2
      have hh := hW2.2.2.1 k hk
      have fin0 : ∀ cc uu L, cc + 1 ≤ 3 → uu + 6 ≤ 19 → (f (21 + 28 * k) ≠ 0 ∨ f (22 + 28 * k) = 8) → pb_Ex G mX2_addFrame 8 3 19 (yd_Q K h A lo ex_hull (3, -1, f)) cc uu 59 L [pb_i 0] h2 := by
        intro cc uu L h1 h2 h3
        refine pb_Ex.tS rfl rfl rfl rfl (ck_st0 hG) (by omega) (by omega) (by omega) (fun q h1 hx1 => pb_Xx.out rfl (by omega) (by omega) ?_)
        exact yd_Q.no (ex := ex_hull) (fr_P.ho (fr_x.P (x2.tr hx1)) (by omega)) (by decide)
      refine pb_Ex.gets rfl (hG.2.2.2.2.1 0 (by omega)).1 q327 ?_
      (try refine pb_Ex.run rfl ?_)
      refine pb_Ex.pV rfl rfl rfl rfl (hh.1) rfl rfl (hu_is hG hh oh 0 (by omega)) (by omega) (by omega) (by omega) ?_
      (try refine pb_Ex.run rfl ?_)
      by_cases cs : f (21 + 28 * k) = 0
      · rw [if_pos (show f (21 + 28 * k) = (0 : Nat) from cs)]
        refine pb_Ex.ifF rfl (by omega) (by first | decide | (simp only [pb_cmp]; omega) | simp [pb_cmp]) ?_
        (try refine pb_Ex.run rfl ?_)
        refine pb_Ex.pV rfl rfl rfl rfl (hh.1) rfl rfl (hu_size hh) (by omega) (by omega) (by omega) ?_
        (try refine pb_Ex.run rfl ?_)
        refine pb_Ex.icmp_ge rfl (by omega) (by omega) (fun c8 => ?_) (fun c8 => ?_)
        · rw [if_pos (show f (21 + 28 * k) ≠ 0 ∨ f (22 + 28 * k) = 8 by omega)]
          refine pb_Ex.run rfl ?_
          exact fin0 _ _ _ (by omega) (by omega) (by omega)
        · rw [if_neg (show ¬ (f (21 + 28 * k) ≠ 0 ∨ f (22 + 28 * k) = 8) by omega)]
          refine pb_Ex.run rfl ?_
          refine pb_Ex.pS rfl rfl rfl rfl (ck_st1) (by omega) (by omega) (by omega) ?_
          (try refine pb_Ex.run rfl ?_)
          refine pb_Ex.getf rfl rfl hh.1 rfl ?_
          (try refine pb_Ex.run rfl ?_)
          refine pb_Ex.fin (fun hf2 => ?_)
          obtain ⟨n, hn0⟩ : ∃ n, ya_n f k = n := ⟨_, rfl⟩
          obtain ⟨k1, ⟨g, k2, k3⟩, ⟨ca, k4, k5⟩, k6⟩ := id hh
          refine pb_Ex.new 6 2 RX8 TX8 [pb_i 0, pb_i 0] rfl rfl rfl rfl (fun j hj => by
            have hj : j < 2 := hj
            match j, hj with
            | 0, _ => rfl
            | 1, _ => rfl) (by omega) (by omega) ?_
          refine pb_Ex.run rfl ?_
          refine pb_Ex.cIo rfl rfl rfl rfl (fm_init l r pb_new_same) (by omega) (by omega) (by omega) (fun h4 e1 => ?_)
          obtain ⟨s4, b4, x4⟩ := e1
          have s4 : h4.1 = h2.1 + 1 := s4
          (try refine pb_Ex.run rfl ?_)
          have x24 : fr_x h2 h4 := ⟨by omega, fun b c hb _ => by
            have := hf2 b c hb
            rw [x4 b (by omega), pb_new_ne (by omega)]
            exact hb⟩
          have hL4 := k2.x x24
          obtain ⟨mc4, ho4⟩ := hL4.obj
          have lt := yd_lt hf2 hW2
          refine pb_Ex.cV rfl rfl rfl rfl ho4 rfl rfl (ja_add hG (hK2.x hG x24) hL4 (by omega) b4 (by decide)) ⟨by omega, by omega, by omega⟩ (fun v h5 hq => ?_) (fun E q9 h2 hq => by cases hq.1)
          obtain ⟨d1, e', d2, d3, d4, d5, d6⟩ := hq
          cases d1
          (try refine pb_Ex.run rfl ?_)
          have fr25 : fr_P (fun b _ => b ≠ A (7 + 4 * k + 1) ∧ (b ≠ A (7 + 4 * k + 3) ∨ b = co_E K)) h2 h5 := ⟨by have := d6.1; omega, fun b c hb hp => d6.2 b c (x24.at hb) hp⟩
          rw [hn0] at d2
          have hE1 := hu_E hK2 hh 1 (by omega)
          have ge := yd_ge hJ (i := 7 + 4 * k + 1) (by omega) hE1
          have l1 := lt (7 + 4 * k + 1) (by omega)
          have l3 := lt (7 + 4 * k + 3) (by omega)
          obtain ⟨mcl, capl, ql, r1, r2, -⟩ := id k2
          have r1 : h2.2 (A (7 + 4 * k + 1)) = _ := r1
          have r2 : h2.2 (A (7 + 4 * k + 3)) = _ := r2
          have k1 : h2.2 (A (7 + 4 * k + 0)) = _ := k1
          have k4 : h2.2 (A (7 + 4 * k + 2)) = _ := k4
          have nK : ∀ b c, h2.2 b = some c → (∀ fs, c ≠ pb_ob 12 fs) → (∀ N q, c ≠ pb_aR N q) → b ≠ A (7 + 4 * k + 1) ∧ (b ≠ A (7 + 4 * k + 3) ∨ b = co_E K) := fun b c hb n1 n2 => by
            refine ⟨fun e => ?_, Or.inl (fun e => ?_)⟩
            · rw [e, r1] at hb; cases hb; exact n1 _ rfl
            · rw [e, r2] at hb; cases hb; exact n2 _ _ rfl
          obtain ⟨f', hf'⟩ : ∃ f', f' = (if 0 < n then va_up (va_up (va_up (va_up f (25 + 28 * k + 2 * n) l) (26 + 28 * k + 2 * n) r) (22 + 28 * k) (f (22 + 28 * k) + 1)) (40 + 28 * k + n) 9 else va_up (va_up (va_up f (25 + 28 * k + 2 * n) l) (26 + 28 * k + 2 * n) r) (22 + 28 * k) (f (22 + 28 * k) + 1)) := ⟨_, rfl⟩
          have fo : ∀ i, i ≠ 25 + 28 * k + 2 * n → i ≠ 26 + 28 * k + 2 * n → i ≠ 22 + 28 * k → (0 < n → i ≠ 40 + 28 * k + n) → f' i = f i := fun i a1 a2 a3 a4 => by
            rw [hf']
            by_cases q : 0 < n
            · rw [if_pos q, va_upN _ _ (a4 q), va_upN _ _ a3, va_upN _ _ a2, va_upN _ _ a1]
            · rw [if_neg q, va_upN _ _ a3, va_upN _ _ a2, va_upN _ _ a1]
          have fl : f' (25 + 28 * k + 2 * n) = l := by
            rw [hf']
            by_cases q : 0 < n
            · rw [if_pos q, va_upN _ _ (by omega), va_upN _ _ (by omega), va_upN _ _ (by omega), va_upS]
            · rw [if_neg q, va_upN _ _ (by omega), va_upN _ _ (by omega), va_upS]
          have frr : f' (26 + 28 * k + 2 * n) = r := by
            rw [hf']
            by_cases q : 0 < n
            · rw [if_pos q, va_upN _ _ (by omega), va_upN _ _ (by omega), va_upS]
            · rw [if_neg q, va_upN _ _ (by omega), va_upS]
          have fn : f' (22 + 28 * k) = f (22 + 28 * k) + 1 := by
            rw [hf']
            by_cases q : 0 < n
            · rw [if_pos q, va_upN _ _ (by omega), va_upS]
            · rw [if_neg q, va_upS]
          have f9 : 0 < n → f' (40 + 28 * k + n) = 9 := fun q => by rw [hf', if_pos q, va_upS]
          have en : ya_n f' k = n + 1 := by unfold ya_n; rw [fn]; omega
          have es : ya_se f' k = n := by unfold ya_se; omega
          have es0 : ya_se f k = n - 1 := by unfold ya_se; omega
          have hH5 : hu_W K h5 (fun i => va_up A (7 + 4 * k + 3) e' (7 + 4 * k + i)) k f' := by
            refine ⟨?_, ⟨va_up g n h2.1, ?_, fun j hj => ?_⟩, ⟨ca, ?_, fun j hj => ?_⟩, ?_⟩
            · show h5.2 (va_up A (7 + 4 * k + 3) e' (7 + 4 * k + 0)) = some (pb_ob 5 [pb_i k, pb_r (va_up A (7 + 4 * k + 3) e' (7 + 4 * k + 1)), pb_r (va_up A (7 + 4 * k + 3) e' (7 + 4 * k + 2)), _, _, _])
              rw [va_upN A e' (show 7 + 4 * k + 0 ≠ 7 + 4 * k + 3 by omega), va_upN A e' (show 7 + 4 * k + 1 ≠ 7 + 4 * k + 3 by omega), va_upN A e' (show 7 + 4 * k + 2 ≠ 7 + 4 * k + 3 by omega), fo _ (by omega) (by omega) (by omega) (by omega), fo _ (by omega) (by omega) (by omega) (by omega), fo _ (by omega) (by omega) (by omega) (by omega)]
              exact fr25.2 _ _ k1 (nK _ _ k1 (fun fs z => by cases z) (fun N q z => by cases z))
            · show al_W K h5 (va_up A (7 + 4 * k + 3) e' (7 + 4 * k + 1)) (va_up A (7 + 4 * k + 3) e' (7 + 4 * k + 3)) _ _
              rw [en, va_upN A e' (show 7 + 4 * k + 1 ≠ 7 + 4 * k + 3 by omega), va_upS]
              exact d2
            · rw [en] at hj
              by_cases q : j = n
              · subst q
                rw [va_upS, show 25 + 28 * k + 2 * j + 1 = 26 + 28 * k + 2 * j by omega, show 25 + 28 * k + 2 * j + 0 = 25 + 28 * k + 2 * j from rfl, fl, frr]
                exact d6.2 _ _ b4 ⟨by show h2.1 ≠ A (7 + 4 * k + 1); omega, Or.inl (by show h2.1 ≠ A (7 + 4 * k + 3); omega)⟩
              · rw [va_upN g _ q, fo _ (by omega) (by omega) (by omega) (by omega), fo _ (by omega) (by omega) (by omega) (by omega)]
                have q3 := k3 j (by omega)
                exact fr25.2 _ _ q3 (nK _ _ q3 (fun fs z => by cases z) (fun N q z => by cases z))
            · show h5.2 (va_up A (7 + 4 * k + 3) e' (7 + 4 * k + 2)) = _
              rw [va_upN A e' (show 7 + 4 * k + 2 ≠ 7 + 4 * k + 3 by omega)]
              exact fr25.2 _ _ k4 (nK _ _ k4 (fun fs z => by cases z) (fun N q z => by cases z))
            · rw [es, k5 j hj, es0]
              by_cases q : j < n - 1
              · rw [if_pos q, if_pos (by omega), fo _ (by omega) (by omega) (by omega) (by omega)]
              · rw [if_neg q]
                by_cases q2 : j < n
                · rw [if_pos q2, show 41 + 28 * k + j = 40 + 28 * k + n by omega, f9 (by omega)]
                · rw [if_neg q2]
            · show co_D K (va_up A (7 + 4 * k + 3) e' (7 + 4 * k + 2))
              rw [va_upN A e' (show 7 + 4 * k + 2 ≠ 7 + 4 * k + 3 by omega)]
              exact k6
          have J5 : yd_J K (va_up A (7 + 4 * k + 3) e') (f 0).toNat lo := by
            rcases d3 with d3 | d3
            · have d3 : e' = A (7 + 4 * k + 3) := d3
              rw [d3, va_upid]; exact hJ
            · exact hJ.up (fun i hi => by have := lt i hi; omega) (by have := x2.1; omega)
          have W5 := yd_W.hull (A' := va_up A (7 + 4 * k + 3) e') (f' := f') hW2 ok.n8 hJ hk (fr25.mono (fun b c hb hp => ⟨fun e => ?_, ?_⟩)) (fun i hi => va_upN _ _ hi) hH5 (fun i hi _ => fo i (by omega) (by omega) (by omega) (by omega)) (by omega) (by omega)
          · have hh5 := W5.2.2.1 k (by rw [fo 0 (by omega) (by omega) (by omega) (by omega)]; exact hk)
            have ob5 : h5.2 (A (7 + 4 * k)) = _ := fr25.2 _ _ k1 (nK _ _ k1 (fun fs z => by cases z) (fun N q z => by cases z))
            have sz5 := hu_size (G := G) hh5
            rw [show va_up A (7 + 4 * k + 3) e' (7 + 4 * k + 0) = A (7 + 4 * k) from va_upN _ _ (by omega), en] at sz5
            refine pb_Ex.pV rfl rfl rfl rfl (ob5) rfl rfl (sz5) (by omega) (by omega) (by omega) ?_
            (try refine pb_Ex.run rfl ?_)
            rw [show ((n + 1 : Nat) : Int) = f (22 + 28 * k) + 1 by omega, hn0, ← hf']
            refine pb_Ex.iret rfl rfl (by omega) (by omega) (yd_Q.ok (A' := va_up A (7 + 4 * k + 3) e') (x2.P.tr (fr25.mono (fun b c hb hl => ⟨?_, ?_⟩))) (va_upN _ _ (by omega)) W5 ?_)
            · have hl : b < lo := hl
              omega
            · have hl : b < lo := hl
              rcases hJ.2 (7 + 4 * k + 3) (by omega) with z | z
              · exact Or.inl (by omega)
              · by_cases q : b = A (7 + 4 * k + 3)
                · exact Or.inr (q.trans z)
                · exact Or.inl q
            · rw [fo 0 (by omega) (by omega) (by omega) (by omega)]
              exact J5
          · exact hE1 (by have := hp 1 (by omega) e; rw [e] at this; exact this)
          · by_cases e : b = A (7 + 4 * k + 3)
            · exact Or.inr (hp 3 (by omega) e)
            · exact Or.inl e
      · rw [if_neg (show ¬ f (21 + 28 * k) = (0 : Nat) from cs), if_pos (Or.inl cs)]
        refine pb_Ex.ifT rfl (by omega) (by first | decide | (simp only [pb_cmp]; omega) | simp [pb_cmp]) ?_
        (try refine pb_Ex.run rfl ?_)
        exact fin0 _ _ _ (by omega) (by omega) (Or.inl cs)
    · rw [if_pos c]
      refine pb_Ex.tS rfl rfl rfl rfl (ck_argE hG b2 (by omega) ar.1 (fun q => c ⟨iv1.2.mp (ar.2.mp q).1, iv2.2.mp (ar.2.mp q).2⟩)) (by omega) (by omega) (by omega) (fun q h1 hx1 => pb_Xx.out rfl (by omega) (by omega) ?_)
      exact yd_Q.no (ex := ex_hull) (fr_P.ho (fr_x.P (x2.tr hx1)) (by omega)) (by decide)
  · rw [if_pos cz]
    refine pb_Ex.tV rfl rfl rfl rfl (hW.1) rfl rfl (yd_hull0 hG hW ok z hz cz) (by omega) (by omega) (by omega) (fun q h1 hx1 => pb_Xx.out rfl (by omega) (by omega) ?_)
    exact yd_Q.no (ex := ex_hull) (fr_P.ho (fr_x.P hx1) (by omega)) (by decide)
end OPS3
