set_option maxRecDepth 100000
section OPS4
variable {G : pb_G} {K : co_K} {h : pb_H} {A : Nat → Nat} {f : Nat → Int} {t lo : Nat}
def ex_ord : Int → String := fun c => if c = 1 then xIAE else xISE
def ex_del : Int → String := fun c => if c = 1 then xNSE else if c = 2 then xIOB else xISE
theorem yd_addOrder (hG : co_G G K) (hK : co_W K h) (hW : yd_W K h A f) (ok : ya_ok t f) (hJ : yd_J K A (f 0).toNat lo) (hlo : lo ≤ h.1) (a b c : Int) (ha : pb_rg a) (hb : pb_rg b) (hc : pb_rg c) : pb_Ctr G mX2_addOrder 8 3 22 [pb_r (A 0), pb_i a, pb_i b, pb_i c] h (yd_Q K h A lo ex_ord (sp_order f a b c)) := by
  have hn := ok.num
  unfold sp_order
  refine pb_Ctr.of rfl rfl rfl tX2_addOrder_ok rfl ?_
  (try refine pb_Ex.run rfl ?_)
  refine pb_Ex.fin (fun hf => ?_)
  refine pb_Ex.newZ 3 rfl rfl (by omega) (by omega) (by omega) ?_
  (try refine pb_Ex.run rfl ?_)
  refine pb_Ex.pS rfl rfl rfl rfl (ck_bt (a) (2) (8) (by omega) (by omega) (by omega)) (by omega) (by omega) (by omega) ?_
  obtain ⟨v1, hv1, iv1⟩ := bt_ex (2 ≤ a ∧ a ≤ 8)
  rw [← hv1]
  (try refine pb_Ex.run rfl ?_)
  refine pb_Ex.zstat (0) rfl (pb_new_same) (by omega) (by omega) (by omega) ?_
  (try refine pb_Ex.run rfl ?_)
  refine pb_Ex.pS rfl rfl rfl rfl (ck_bt (b) (0) (999) (by omega) (by omega) (by omega)) (by omega) (by omega) (by omega) ?_
  obtain ⟨v2, hv2, iv2⟩ := bt_ex (0 ≤ b ∧ b ≤ 999)
  rw [← hv2]
  (try refine pb_Ex.run rfl ?_)
  refine pb_Ex.zstat (1) rfl (pb_set_same) (by omega) (by omega) (by omega) ?_
  (try refine pb_Ex.run rfl ?_)
  refine pb_Ex.pS rfl rfl rfl rfl (ck_bt (c) (1) (999) (by omega) (by omega) (by omega)) (by omega) (by omega) (by omega) ?_
  obtain ⟨v3, hv3, iv3⟩ := bt_ex (1 ≤ c ∧ c ≤ 999)
  rw [← hv3]
  (try refine pb_Ex.run rfl ?_)
  refine pb_Ex.zstat (2) rfl (pb_set_same) (by omega) (by omega) (by omega) ?_
  (try refine pb_Ex.run rfl ?_)
  have x2 : fr_x h (pb_set (pb_set (pb_set (pb_new h (pb_aI 1 3 fun _ => 0)) h.1 (pb_aI 1 3 (va_up (fun _ => 0) 0 v1))) h.1 (pb_aI 1 3 (va_up (va_up (fun _ => 0) 0 v1) 1 v2))) h.1 (pb_aI 1 3 (va_up (va_up (va_up (fun _ => 0) 0 v1) 1 v2) 2 v3))) := (((fr_x.rf.nw hf _).st hf _ (Nat.le_refl _)).st hf _ (Nat.le_refl _)).st hf _ (Nat.le_refl _)
  have b2 : (pb_set (pb_set (pb_set (pb_new h (pb_aI 1 3 fun _ => 0)) h.1 (pb_aI 1 3 (va_up (fun _ => 0) 0 v1))) h.1 (pb_aI 1 3 (va_up (va_up (fun _ => 0) 0 v1) 1 v2))) h.1 (pb_aI 1 3 (va_up (va_up (va_up (fun _ => 0) 0 v1) 1 v2) 2 v3))).2 h.1 = some (pb_aI 1 3 (va_up (va_up (va_up (fun _ => 0) 0 v1) 1 v2) 2 v3)) := pb_set_same
  generalize pb_set (pb_set (pb_set (pb_new h (pb_aI 1 3 fun _ => 0)) h.1 (pb_aI 1 3 (va_up (fun _ => 0) 0 v1))) h.1 (pb_aI 1 3 (va_up (va_up (fun _ => 0) 0 v1) 1 v2))) h.1 (pb_aI 1 3 (va_up (va_up (va_up (fun _ => 0) 0 v1) 1 v2) 2 v3)) = h2 at x2 b2 ⊢
  have ar := ar_3 iv1.1 iv2.1 iv3.1
  by_cases cc : (2 ≤ a ∧ a ≤ 8) ∧ (0 ≤ b ∧ b ≤ 999) ∧ 1 ≤ c ∧ c ≤ 999
  · rw [if_neg (not_not_intro cc)]
    refine pb_Ex.pS rfl rfl rfl rfl (ck_arg1 b2 (by omega) (ar.2.mpr ⟨iv1.2.mpr cc.1, iv2.2.mpr cc.2.1, iv3.2.mpr cc.2.2⟩)) (by omega) (by omega) (by omega) ?_
    (try refine pb_Ex.run rfl ?_)
    have hW2 := hW.x x2
    have hK2 := hK.x hG x2
    obtain ⟨g, hO1, hO2⟩ := hW2.2.2.2.1
    obtain ⟨mc, ho⟩ := hO1.obj
    refine pb_Ex.getf rfl rfl hW2.1 rfl ?_
    (try refine pb_Ex.run rfl ?_)
    refine pb_Ex.pV rfl rfl rfl rfl (ho) rfl rfl (ja_size hO1) (by omega) (by omega) (by omega) ?_
    (try refine pb_Ex.run rfl ?_)
    refine pb_Ex.icmp_ge rfl (by omega) (by omega) (fun c6 => ?_) (fun c6 => ?_)
    · rw [if_pos (show f 2 = 6 by omega)]
      refine pb_Ex.run rfl ?_
      refine pb_Ex.tS rfl rfl rfl rfl (ck_st0 hG) (by omega) (by omega) (by omega) (fun q h1 hx1 => pb_Xx.out rfl (by omega) (by omega) ?_)
      exact yd_Q.no (ex := ex_ord) (fr_P.ho (fr_x.P (x2.tr hx1)) (by omega)) (by decide)
    · rw [if_neg (show ¬ f 2 = 6 by omega)]
      obtain ⟨m, hm⟩ : ∃ m, (f 2).toNat = m := ⟨_, rfl⟩
      rw [hm] at hO1 hO2 ⊢
      refine pb_Ex.run rfl ?_
      refine pb_Ex.pS rfl rfl rfl rfl (ck_st1) (by omega) (by omega) (by omega) ?_
      (try refine pb_Ex.run rfl ?_)
      refine pb_Ex.getf rfl rfl hW2.1 rfl ?_
      (try refine pb_Ex.run rfl ?_)
      refine pb_Ex.fin (fun hf2 => ?_)
      refine pb_Ex.new 8 4 RX10 TX10 [pb_i 0, pb_i 0, pb_i 0, pb_i 0] rfl rfl rfl rfl (fun j hj => by
        have hj : j < 4 := hj
        match j, hj with
        | 0, _ => rfl
        | 1, _ => rfl
        | 2, _ => rfl
        | 3, _ => rfl) (by omega) (by omega) ?_
      refine pb_Ex.run rfl ?_
      refine pb_Ex.getf rfl rfl (hW2.x (fr_x.rf.nw hf2 _)).1 rfl ?_
      (try refine pb_Ex.run rfl ?_)
      refine pb_Ex.cIo rfl rfl rfl rfl (or_init (f 3) a b c pb_new_same) (by omega) (by omega) (by omega) (fun h4 e1 => ?_)
      obtain ⟨s4, b4, x4⟩ := e1
      have s4 : h4.1 = h2.1 + 1 := s4
      have b4 : h4.2 h2.1 = _ := b4
      (try refine pb_Ex.run rfl ?_)
      have x24 : fr_x h2 h4 := ⟨by omega, fun b c hb _ => by
        have := hf2 b c hb
        rw [x4 b (by show b ≠ h2.1; omega), pb_new_ne (by omega)]
        exact hb⟩
      have hL4 := hO1.x x24
      obtain ⟨mc4, ho4⟩ := hL4.obj
      have lt := yd_lt hf2 hW2
      refine pb_Ex.cV rfl rfl rfl rfl ho4 rfl rfl (ja_add hG (hK2.x hG x24) hL4 (by omega) b4 (by decide)) ⟨by omega, by omega, by omega⟩ (fun v h5 hq => ?_) (fun E q9 h2 hq => by cases hq.1)
      obtain ⟨d1, e', d2, d3, d4, d5, d6⟩ := hq
      cases d1
      (try refine pb_Ex.run rfl ?_)
      have nE0 := yd_E hK2 hW2 0 (by omega)
      have nE2 := yd_E hK2 hW2 2 (by omega)
      have g0 := yd_ge hJ (i := 0) (by omega) nE0
      have g2 := yd_ge hJ (i := 2) (by omega) nE2
      have l2 := lt 2 (by omega)
      have l6 := lt 6 (by omega)
      have fr25 : fr_P (fun b _ => b ≠ A 2 ∧ (b ≠ A 6 ∨ b = co_E K)) h2 h5 := ⟨by have := d6.1; omega, fun b c hb hp => d6.2 b c (x24.at hb) hp⟩
      have n02 : A 0 ≠ A 2 := fun e => nE0 (hJ.1 0 2 (by omega) (by omega) e)
      have n06 : A 0 ≠ A 6 := fun e => nE0 (hJ.1 0 6 (by omega) (by omega) e)
      have o5 := fr25.2 _ _ hW2.1 ⟨n02, Or.inl n06⟩
      obtain ⟨mcl, capl, ql, r1, r2, -⟩ := id hO1
      have W5 := yd_W.ords (e' := e') (g' := va_up g m h2.1) (f' := va_up (va_up (va_up (va_up (va_up f (189 + 4 * m) (f 3)) (190 + 4 * m) a) (191 + 4 * m) b) (192 + 4 * m) c) 2 (f 2 + 1)) hW2 hJ fr25 ⟨by
        rw [va_upN A e' (show 2 ≠ 6 by omega), va_upS, va_upS, show (f 2 + 1).toNat = m + 1 by omega]
        exact d2, fun j hj => by
        rw [va_upS] at hj
        rw [va_upN _ _ (show 189 + 4 * j ≠ 2 by omega), va_upN _ _ (show 190 + 4 * j ≠ 2 by omega), va_upN _ _ (show 191 + 4 * j ≠ 2 by omega), va_upN _ _ (show 192 + 4 * j ≠ 2 by omega)]
        by_cases q : j = m
        · subst q
          rw [va_upS, va_upS, va_upN _ _ (show 189 + 4 * j ≠ 192 + 4 * j by omega), va_upN _ _ (show 189 + 4 * j ≠ 191 + 4 * j by omega), va_upN _ _ (show 189 + 4 * j ≠ 190 + 4 * j by omega), va_upS, va_upN _ _ (show 190 + 4 * j ≠ 192 + 4 * j by omega), va_upN _ _ (show 190 + 4 * j ≠ 191 + 4 * j by omega), va_upS, va_upN _ _ (show 191 + 4 * j ≠ 192 + 4 * j by omega), va_upS]
          exact d6.2 _ _ b4 ⟨by show h2.1 ≠ A 2; omega, Or.inl (by show h2.1 ≠ A 6; omega)⟩
        · have hj2 : j < m := by omega
          rw [va_upN g _ q]
          repeat rw [va_upN _ _ (show 189 + 4 * j ≠ _ by omega)]
          repeat rw [va_upN _ _ (show 190 + 4 * j ≠ _ by omega)]
          repeat rw [va_upN _ _ (show 191 + 4 * j ≠ _ by omega)]
          repeat rw [va_upN _ _ (show 192 + 4 * j ≠ _ by omega)]
          have q3 := hO2 j hj2
          refine fr25.2 _ _ q3 ⟨fun e => ?_, Or.inl (fun e => ?_)⟩
          · rw [e, r1] at q3; cases q3
          · rw [e, r2] at q3; cases q3⟩ ok.n8 (fun i h1 h2 => by
        rw [va_upN _ _ h1, va_upN _ _ (by omega), va_upN _ _ (by omega), va_upN _ _ (by omega), va_upN _ _ (by omega)]) (by omega) nE2
      refine pb_Ex.getf rfl rfl o5 rfl ?_
      (try refine pb_Ex.run rfl ?_)
      refine pb_Ex.putf rfl rfl (o5) rfl rfl (by first | trivial | exact Or.inl rfl | exact Or.inr rfl | (show _ ∨ _; omega) | (show _ ∧ _; omega)) ?_
      (try refine pb_Ex.run rfl ?_)
      refine pb_Ex.getf rfl rfl pb_set_same rfl ?_
      (try refine pb_Ex.run rfl ?_)
      rw [show f 3 + 1 - 1 = f 3 by omega]
      have e0 : va_up A 6 e' 0 = A 0 := va_upN _ _ (by omega)
      have n8' : ∀ j, j < (va_up (va_up (va_up (va_up (va_up f (189 + 4 * m) (f 3)) (190 + 4 * m) a) (191 + 4 * m) b) (192 + 4 * m) c) 2 (f 2 + 1) 0).toNat → ya_n (va_up (va_up (va_up (va_up (va_up f (189 + 4 * m) (f 3)) (190 + 4 * m) a) (191 + 4 * m) b) (192 + 4 * m) c) 2 (f 2 + 1)) j ≤ 8 := fun j hj => by
        rw [va_upN _ _ (by omega), va_upN _ _ (by omega), va_upN _ _ (by omega), va_upN _ _ (by omega), va_upN _ _ (by omega)] at hj
        rw [ya_n_cg (f := f) (by rw [va_upN _ _ (by omega), va_upN _ _ (by omega), va_upN _ _ (by omega), va_upN _ _ (by omega), va_upN _ _ (by omega)])]
        exact ok.n8 j hj
      refine pb_Ex.iret rfl rfl (by omega) (by omega) (yd_Q.ok (A' := va_up A 6 e') ((x2.P.tr (fr25.mono (fun b c hb hl => ?_))).st _ (fun c hc => by show ¬ A 0 < lo; omega)) e0 (yd_W.fld W5 n8' ?_ ?_ (fun i h1 h3 h4 => va_upN _ _ h3)) ?_)
      · have hl : b < lo := hl
        refine ⟨by omega, ?_⟩
        rcases hJ.2 6 (by omega) with z | z
        · exact Or.inl (by omega)
        · by_cases q : b = A 6
          · exact Or.inr (q.trans z)
          · exact Or.inl q
      · rw [e0]
        exact fr_P.rf.st _ (fun c hc z => z rfl)
      · rw [e0, pb_set_same, va_upN A e' (show 1 ≠ 6 by omega), va_upN A e' (show 2 ≠ 6 by omega), va_upN A e' (show 3 ≠ 6 by omega), va_upN A e' (show 4 ≠ 6 by omega), va_upS, va_upN _ _ (show 1 ≠ 3 by omega), va_upN _ _ (show 1 ≠ 2 by omega), va_upN _ _ (show 4 ≠ 3 by omega), va_upN _ _ (show 4 ≠ 2 by omega)]
        repeat rw [va_upN _ _ (show 1 ≠ _ by omega)]
        repeat rw [va_upN _ _ (show 4 ≠ _ by omega)]
        rfl
      · rw [va_upN _ _ (show 0 ≠ 3 by omega), va_upN _ _ (show 0 ≠ 2 by omega), va_upN _ _ (show 0 ≠ 192 + 4 * m by omega), va_upN _ _ (show 0 ≠ 191 + 4 * m by omega), va_upN _ _ (show 0 ≠ 190 + 4 * m by omega), va_upN _ _ (show 0 ≠ 189 + 4 * m by omega)]
        rcases d3 with d3 | d3
        · rw [d3, va_upid]; exact hJ
        · exact hJ.up (fun i hi => by have := lt i hi; omega) (by have := x2.1; omega)
  · rw [if_pos cc]
    refine pb_Ex.tS rfl rfl rfl rfl (ck_argE hG b2 (by omega) ar.1 (fun q => cc ⟨iv1.2.mp (ar.2.mp q).1, iv2.2.mp (ar.2.mp q).2.1, iv3.2.mp (ar.2.mp q).2.2⟩)) (by omega) (by omega) (by omega) (fun q h1 hx1 => pb_Xx.out rfl (by omega) (by omega) ?_)
    exact yd_Q.no (ex := ex_ord) (fr_P.ho (fr_x.P (x2.tr hx1)) (by omega)) (by decide)
theorem yd_deliver (hG : co_G G K) (hK : co_W K h) (hW : yd_W K h A f) (ok : ya_ok t f) (hJ : yd_J K A (f 0).toNat lo) (id z : Int) (hid : pb_rg id) (hz : pb_rg z) : pb_Ctr G mX2_deliver 8 1 6 [pb_r (A 0), pb_i id, pb_i z] h (yd_Q K h A lo ex_del (sp_deliver f id z)) := by
  have hn := ok.num
  unfold sp_deliver
  refine pb_Ctr.of rfl rfl rfl tX2_deliver_ok rfl ?_
  (try refine pb_Ex.run rfl ?_)
  refine pb_Ex.fin (fun hf => ?_)
  by_cases ci : sp_find f id = -1
  · rw [if_pos ci]
    refine pb_Ex.tV rfl rfl rfl rfl (hW.1) rfl rfl (yd_order0 hG hW ok id hid ci) (by omega) (by omega) (by omega) (fun q h1 hx1 => pb_Xx.out rfl (by omega) (by omega) ?_)
    exact yd_Q.no (ex := ex_del) (fr_P.ho (fr_x.P hx1) (by omega)) (by decide)
  rw [if_neg ci]
  obtain ⟨g, hO⟩ := hW.2.2.2.1
  obtain ⟨p, hp⟩ : ∃ p : Nat, sp_find f id = p := ⟨(sp_find f id).toNat, by have := sp_find_rg ok id; omega⟩
  have hpm : p < (f 2).toNat := by have := sp_find_rg ok id; omega
  have q1 := yd_order1 (G := G) hW hO ok id hid ci
  rw [hp, Int.toNat_natCast] at q1
  rw [hp, Int.toNat_natCast]
  refine pb_Ex.pV rfl rfl rfl rfl (hW.1) rfl rfl (q1) (by omega) (by omega) (by omega) ?_
  (try refine pb_Ex.run rfl ?_)
  by_cases cz : 0 ≤ z ∧ z < f 0
  · rw [if_neg (not_not_intro cz)]
    obtain ⟨k, rfl⟩ := Int.eq_ofNat_of_zero_le cz.1
    rw [Int.toNat_natCast]
    have hk : k < (f 0).toNat := by omega
    have oh := ok.hu2 hk
    have hnn := oh.nn
    have hh := hW.2.2.1 k hk
    have op := hO.2 p hpm
    have oo := ok.ord (k := p) (by omega) (by omega)
    refine pb_Ex.pV rfl rfl rfl rfl (hW.1) rfl rfl (yd_hull1 hW ok k cz) (by omega) (by omega) (by omega) ?_
    (try refine pb_Ex.run rfl ?_)
    rw [Int.toNat_natCast]
    have fin0 : ∀ L, pb_Ex G mX2_deliver 8 1 6 (yd_Q K h A lo ex_del (3, -1, f)) 0 0 41 L [pb_i 0] h := by
      intro L
      refine pb_Ex.tS rfl rfl rfl rfl (ck_st0 hG) (by omega) (by omega) (by omega) (fun q h1 hx1 => pb_Xx.out rfl (by omega) (by omega) ?_)
      exact yd_Q.no (ex := ex_del) (fr_P.ho (fr_x.P hx1) (by omega)) (by decide)
    refine pb_Ex.gets rfl (hG.2.2.2.2.1 1 (by omega)).1 q392 ?_
    (try refine pb_Ex.run rfl ?_)
    refine pb_Ex.pV rfl rfl rfl rfl (hh.1) rfl rfl (hu_is hG hh oh 1 (by omega)) (by omega) (by omega) (by omega) ?_
    (try refine pb_Ex.run rfl ?_)
    by_cases cs : f (21 + 28 * k) = 1
    · rw [if_pos (show f (21 + 28 * k) = (1 : Nat) from cs)]
      refine pb_Ex.ifF rfl (by omega) (by first | decide | (simp only [pb_cmp]; omega) | simp [pb_cmp]) ?_
      (try refine pb_Ex.run rfl ?_)
      refine pb_Ex.pV rfl rfl rfl rfl (hh.1) rfl rfl (hu_size hh) (by omega) (by omega) (by omega) ?_
      (try refine pb_Ex.run rfl ?_)
      refine pb_Ex.getf rfl rfl op rfl ?_
      (try refine pb_Ex.run rfl ?_)
      refine pb_Ex.icmp_ne rfl (by omega) (by omega) (fun c9 => ?_) (fun c9 => ?_)
      · rw [if_pos (show f (21 + 28 * k) ≠ 1 ∨ f (22 + 28 * k) ≠ f (190 + 4 * p) by omega)]
        refine pb_Ex.run rfl ?_
        exact fin0 _
      · rw [if_neg (show ¬ (f (21 + 28 * k) ≠ 1 ∨ f (22 + 28 * k) ≠ f (190 + 4 * p)) by omega)]
        refine pb_Ex.run rfl ?_
        refine pb_Ex.pS rfl rfl rfl rfl (ck_st1) (by omega) (by omega) (by omega) ?_
        (try refine pb_Ex.run rfl ?_)
        refine pb_Ex.gets rfl (hG.2.2.2.2.1 2 (by omega)).1 q897 ?_
        refine pb_Ex.putf rfl rfl (hh.1) rfl rfl (by first | trivial | exact Or.inl rfl | exact Or.inr rfl | (show _ ∨ _; omega) | (show _ ∧ _; omega)) ?_
        (try refine pb_Ex.run rfl ?_)
        have hE := hu_E hK hh 0 (by omega)
        have nE0 := yd_E hK hW 0 (by omega)
        have nE2 := yd_E hK hW 2 (by omega)
        have g0 := yd_ge hJ (i := 0) (by omega) nE0
        have g2 := yd_ge hJ (i := 2) (by omega) nE2
        have gk := yd_ge hJ (i := 7 + 4 * k) (by omega) hE
        have n02 : A 0 ≠ A 2 := fun e => nE0 (hJ.1 0 2 (by omega) (by omega) e)
        have n06 : A 0 ≠ A 6 := fun e => nE0 (hJ.1 0 6 (by omega) (by omega) e)
        have n0k : A 0 ≠ A (7 + 4 * k) := fun e => nE0 (hJ.1 0 (7 + 4 * k) (by omega) (by omega) e)
        have n2k : A 2 ≠ A (7 + 4 * k) := fun e => nE2 (hJ.1 2 (7 + 4 * k) (by omega) (by omega) e)
        have W2 : yd_W K (pb_set h (A (7 + 4 * k)) (pb_ob 5 ([pb_i k, pb_r (A (7 + 4 * k + 1)), pb_r (A (7 + 4 * k + 2)), pb_r (co_st K (f (21 + 28 * k)).toNat), pb_i (f (23 + 28 * k)), pb_i (f (24 + 28 * k))].set 3 (pb_r (co_st K 2))))) A (va_up f (21 + 28 * k) 2) := yd_own hK hW ok hJ hk (by
          rw [va_upS, va_upN f 2 (show 23 + 28 * k ≠ 21 + 28 * k by omega), va_upN f 2 (show 24 + 28 * k ≠ 21 + 28 * k by omega)]
          rfl) (fun i h1 h2 h3 => va_upN _ _ h1)
        have x2 : fr_P (fun b _ => b ≠ A (7 + 4 * k)) h (pb_set h (A (7 + 4 * k)) (pb_ob 5 ([pb_i k, pb_r (A (7 + 4 * k + 1)), pb_r (A (7 + 4 * k + 2)), pb_r (co_st K (f (21 + 28 * k)).toNat), pb_i (f (23 + 28 * k)), pb_i (f (24 + 28 * k))].set 3 (pb_r (co_st K 2))))) := fr_P.rf.st _ (fun c hc z => z rfl)
        show pb_Ex G mX2_deliver 8 1 6 _ _ _ _ _ _ (pb_set h (A (7 + 4 * k)) (pb_ob 5 ([pb_i k, pb_r (A (7 + 4 * k + 1)), pb_r (A (7 + 4 * k + 2)), pb_r (co_st K (f (21 + 28 * k)).toNat), pb_i (f (23 + 28 * k)), pb_i (f (24 + 28 * k))].set 3 (pb_r (co_st K 2)))))
        generalize pb_set h (A (7 + 4 * k)) (pb_ob 5 ([pb_i k, pb_r (A (7 + 4 * k + 1)), pb_r (A (7 + 4 * k + 2)), pb_r (co_st K (f (21 + 28 * k)).toNat), pb_i (f (23 + 28 * k)), pb_i (f (24 + 28 * k))].set 3 (pb_r (co_st K 2)))) = h2 at W2 x2 ⊢
        have hk1 : h.2 (A (7 + 4 * k)) = _ := hh.1
        obtain ⟨hO1, hO2⟩ := hO
        have hO1' := hO1
        obtain ⟨mcl, capl, ql, r1, r2, -⟩ := hO1'
        have n8k : ∀ j, j < (f 2).toNat → g j ≠ A (7 + 4 * k) := fun j hj e => by
          have := hO2 j hj
          rw [e, hk1] at this
          cases this
        have O2 : ∀ j, j < (f 2).toNat → h2.2 (g j) = some (pb_ob 8 [pb_i (f (189 + 4 * j)), pb_i (f (190 + 4 * j)), pb_i (f (191 + 4 * j)), pb_i (f (192 + 4 * j))]) := fun j hj => x2.2 _ _ (hO2 j hj) (n8k j hj)
        have L2 : al_W K h2 (A 2) (A 6) (f 2).toNat g := hO1.fr x2 (fun _ _ => n2k) (fun _ _ e => by rw [e, hk1] at r2; cases r2) (fun j hj ci fs hg => n8k j hj)
        obtain ⟨mc2, ho2⟩ := L2.obj
        have y2 := W2.1
        rw [va_upN f 2 (show 1 ≠ 21 + 28 * k by omega), va_upN f 2 (show 3 ≠ 21 + 28 * k by omega), va_upN f 2 (show 4 ≠ 21 + 28 * k by omega)] at y2
        refine pb_Ex.getf rfl rfl y2 rfl ?_
        (try refine pb_Ex.run rfl ?_)
        refine pb_Ex.cV rfl rfl rfl rfl ho2 rfl rfl (ja_remove L2 p hpm (O2 p hpm) (fun j hj e => ?_)) ⟨by omega, by omega, by omega⟩ (fun v h3 hq => ?_) (fun E q9 h2 hq => by cases hq.1)
        · have a1 := O2 j (by omega)
          have a2 := O2 p hpm
          rw [e, a2] at a1
          have a3 := ok.asc (i := j) (j := p) (by omega) hj (by omega)
          simp only [Option.some.injEq, Sum.inr.injEq, Prod.mk.injEq, List.cons.injEq, Sum.inl.injEq] at a1
          omega
        obtain ⟨d1, d2, d3, d4, d5⟩ := hq
        cases d1
        (try refine pb_Ex.run rfl ?_)
        have nog : ∀ j, j < (f 2).toNat → g j ≠ A 2 ∧ g j ≠ A 6 := fun j hj => by
          have := hO2 j hj
          refine ⟨fun e => ?_, fun e => ?_⟩
          · rw [e, r1] at this; cases this
          · rw [e, r2] at this; cases this
        have O3 : ∀ j, j < (f 2).toNat → h3.2 (g j) = some (pb_ob 8 [pb_i (f (189 + 4 * j)), pb_i (f (190 + 4 * j)), pb_i (f (191 + 4 * j)), pb_i (f (192 + 4 * j))]) := fun j hj => by rw [d5 _ (nog j hj).1 (nog j hj).2]; exact O2 j hj
        have y3 : h3.2 (A 0) = _ := (d5 _ n02 n06).trans y2
        refine pb_Ex.getf rfl rfl y3 rfl ?_
        (try refine pb_Ex.run rfl ?_)
        have ecoin : max 0 (f (192 + 4 * p) - max 0 (f 1 - f (191 + 4 * p))) = sp_coins f p := rfl
        refine pb_Ex.pV rfl rfl rfl rfl ((O3 p hpm)) rfl rfl (or_coins (O3 p hpm) (f 1) (by omega) (by omega) (by omega)) (by omega) (by omega) (by omega) ?_
        (try refine pb_Ex.run rfl ?_)
        rw [ecoin]
        have rc := sp_coins_rg ok (k := p) (by omega) (by omega)
        refine pb_Ex.getf rfl rfl y3 rfl ?_
        (try refine pb_Ex.run rfl ?_)
        refine pb_Ex.i2l rfl (by omega) ?_
        (try refine pb_Ex.run rfl ?_)
        refine pb_Ex.putf rfl rfl (y3) rfl rfl (by first | trivial | exact Or.inl rfl | exact Or.inr rfl | (show _ ∨ _; omega) | (show _ ∧ _; omega)) ?_
        (try refine pb_Ex.run rfl ?_)
        have hJ2 : yd_J K A (va_up f (21 + 28 * k) 2 0).toNat lo := by rw [va_upN f 2 (show 0 ≠ 21 + 28 * k by omega)]; exact hJ
        have fr23 : fr_P (fun b _ => b ≠ A 2 ∧ (b ≠ A 6 ∨ b = co_E K)) h2 h3 := ⟨by omega, fun b c hb hp => by
          rcases hp.2 with q | q
          · rw [d5 b hp.1 q]; exact hb
          · rw [d5 b hp.1 (by rw [q]; exact Ne.symm d4)]; exact hb⟩
        have n82 : ∀ j, j < (va_up f (21 + 28 * k) 2 0).toNat → ya_n (va_up f (21 + 28 * k) 2) j ≤ 8 := fun j hj => by
          rw [va_upN f 2 (show 0 ≠ 21 + 28 * k by omega)] at hj
          rw [ya_n_cg (f := f) (va_upN f 2 (by omega))]
          exact ok.n8 j hj
        have smv : ∀ (F : Nat → Int) (i : Nat), i < 189 → sp_mv F p i = F i := fun F i hi => by
          unfold sp_mv
          rw [if_neg (by omega), if_neg (by omega)]
        have smv2 : ∀ (F : Nat → Int) (j i : Nat), j + 1 < (f 2).toNat → i < 4 → sp_mv F p (189 + 4 * j + i) = F (189 + 4 * (if p ≤ j then j + 1 else j) + i) := fun F j i hj hi => by
          unfold sp_mv
          by_cases q : p ≤ j
          · rw [if_pos (by omega), if_pos q]
            congr 1
            omega
          · rw [if_neg (by omega), if_neg (by omega), if_neg q]
        have W3 := yd_W.ords (e' := A 6) (g' := fun j => if p ≤ j then g (j + 1) else g j) (f' := va_up (sp_mv (va_up f (21 + 28 * k) 2) p) 2 (f 2 - 1)) W2 hJ2 fr23 ⟨by
          rw [va_upid, va_upS, show (f 2 - 1).toNat = (f 2).toNat - 1 by omega]
          exact d2, fun j hj => by
          rw [va_upS] at hj
          have hj2 : j + 1 < (f 2).toNat := by omega
          rw [va_upN _ _ (show 189 + 4 * j ≠ 2 by omega), va_upN _ _ (show 190 + 4 * j ≠ 2 by omega), va_upN _ _ (show 191 + 4 * j ≠ 2 by omega), va_upN _ _ (show 192 + 4 * j ≠ 2 by omega)]
          have u0 := smv2 (va_up f (21 + 28 * k) 2) j 0 hj2 (by omega)
          have u1 := smv2 (va_up f (21 + 28 * k) 2) j 1 hj2 (by omega)
          have u2 := smv2 (va_up f (21 + 28 * k) 2) j 2 hj2 (by omega)
          have u3 := smv2 (va_up f (21 + 28 * k) 2) j 3 hj2 (by omega)
          rw [show 189 + 4 * j + 0 = 189 + 4 * j by omega] at u0
          rw [show 189 + 4 * j + 1 = 190 + 4 * j by omega] at u1
          rw [show 189 + 4 * j + 2 = 191 + 4 * j by omega] at u2
          rw [show 189 + 4 * j + 3 = 192 + 4 * j by omega] at u3
          rw [u0, u1, u2, u3, va_upN _ _ (by omega), va_upN _ _ (by omega), va_upN _ _ (by omega), va_upN _ _ (by omega)]
          by_cases q : p ≤ j
          · simp only [if_pos q]
            have := O3 (j + 1) hj2
            rw [show 189 + 4 * (j + 1) + 0 = 189 + 4 * (j + 1) by omega, show 189 + 4 * (j + 1) + 1 = 190 + 4 * (j + 1) by omega, show 189 + 4 * (j + 1) + 2 = 191 + 4 * (j + 1) by omega, show 189 + 4 * (j + 1) + 3 = 192 + 4 * (j + 1) by omega]
            exact this
          · simp only [if_neg q]
            have := O3 j (by omega)
            rw [show 189 + 4 * j + 0 = 189 + 4 * j by omega, show 189 + 4 * j + 1 = 190 + 4 * j by omega, show 189 + 4 * j + 2 = 191 + 4 * j by omega, show 189 + 4 * j + 3 = 192 + 4 * j by omega]
            exact this⟩ n82 (fun i h1 h2 => by rw [va_upN _ _ h1, smv _ i h2]) (by rw [va_upN f 2 (show 0 ≠ 21 + 28 * k by omega)]; omega) nE2
        rw [va_upid] at W3
        refine pb_Ex.iret rfl rfl (by omega) (by omega) (yd_Q.ok (A' := A) (((x2.mono (fun b c hb hl e => ?_)).tr (fr23.mono (fun b c hb hl => ?_))).st _ (fun c hc => by show ¬ A 0 < lo; omega)) rfl (yd_W.fld W3 ?_ (fr_P.rf.st _ (fun c hc z => z rfl)) ?_ (fun i h1 h3 h4 => ?_)) ?_)
        · have hl : b < lo := hl
          omega
        · have hl : b < lo := hl
          refine ⟨by omega, ?_⟩
          rcases hJ.2 6 (by omega) with z | z
          · exact Or.inl (by omega)
          · by_cases q : b = A 6
            · exact Or.inr (q.trans z)
            · exact Or.inl q
        · intro j hj
          rw [va_upN _ _ (by omega), smv _ _ (by omega), va_upN f 2 (show 0 ≠ 21 + 28 * k by omega)] at hj
          rw [ya_n_cg (f := f) (by rw [va_upN _ _ (by omega), smv _ _ (by omega), va_upN f 2 (by omega)])]
          exact ok.n8 j hj
        · rw [pb_set_same, va_upN _ _ (show 1 ≠ 2 by omega), va_upN _ _ (show 3 ≠ 2 by omega), va_upN _ _ (show 4 ≠ 2 by omega), smv _ _ (by omega), smv _ _ (by omega), smv _ _ (by omega), va_upN _ _ (show 1 ≠ 21 + 28 * k by omega), va_upN _ _ (show 3 ≠ 21 + 28 * k by omega), va_upN _ _ (show 4 ≠ 21 + 28 * k by omega), va_upN _ _ (show 1 ≠ 4 by omega), va_upN _ _ (show 3 ≠ 4 by omega), va_upS]
          rfl
        · by_cases q : i = 2
          · subst q; rw [va_upS, va_upS]
          · rw [va_upN _ _ q, va_upN _ _ q]
            unfold sp_mv
            by_cases q1 : 189 + 4 * p ≤ i ∧ i < 209
            · rw [if_pos q1, if_pos q1, va_upN _ _ (by omega), va_upN _ _ (by omega), va_upN _ _ (by omega)]
            · rw [if_neg q1, if_neg q1]
              by_cases q2 : 209 ≤ i ∧ i < 213
              · rw [if_pos q2, if_pos q2]
              · rw [if_neg q2, if_neg q2]
                by_cases q3 : i = 21 + 28 * k
                · rw [q3, va_upS, va_upS]
                · rw [va_upN _ _ q3, va_upN _ _ q3, va_upN _ _ h4]
        · rw [va_upN _ _ (show 0 ≠ 2 by omega), smv _ _ (by omega), va_upN _ _ (show 0 ≠ 21 + 28 * k by omega), va_upN _ _ (show 0 ≠ 4 by omega)]
          exact hJ
    · rw [if_neg (show ¬ f (21 + 28 * k) = (1 : Nat) from cs), if_pos (Or.inl cs)]
      refine pb_Ex.ifT rfl (by omega) (by first | decide | (simp only [pb_cmp]; omega) | simp [pb_cmp]) ?_
      (try refine pb_Ex.run rfl ?_)
      exact fin0 _
  · rw [if_pos cz]
    refine pb_Ex.tV rfl rfl rfl rfl (hW.1) rfl rfl (yd_hull0 hG hW ok z hz cz) (by omega) (by omega) (by omega) (fun q h1 hx1 => pb_Xx.out rfl (by omega) (by omega) ?_)
    exact yd_Q.no (ex := ex_del) (fr_P.ho (fr_x.P hx1) (by omega)) (by decide)
end OPS4
