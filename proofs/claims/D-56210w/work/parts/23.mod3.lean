set_option maxRecDepth 100000
section MODEL3
variable {G : pb_G} {h : pb_H} {o : Nat} {A : Nat → Nat} {x : Nat → Int} {F : Nat → Nat → Int} {t : Nat}
theorem mo_launchIt (hW : mo_W h o A x F) (ok : ya_ok t (F 0)) (z : Int) (hz : pb_rg z) : pb_Ctr G mX4_launchIt 6 0 0 [pb_r o, pb_i z] h (mo_Q o A h (some (pb_i (sp_launch (F 0) z).2.1)) (mo_S (if (sp_launch (F 0) z).2.2.2 = 0 then x else va_up x 8 (sp_launch (F 0) z).2.2.2) (sp_launch (F 0) z).1) (va_up F 0 (sp_launch (F 0) z).2.2.1)) := by
  have hf : mo_Fr o A h h := mo_Fr.rf
  have h0 := ok.num
  unfold sp_launch
  refine pb_Ctr.of rfl rfl rfl tX4_launchIt_ok rfl ?_
  (try refine pb_Ex.run rfl ?_)
  refine pb_Ex.pV rfl rfl rfl rfl hW.1 rfl rfl (mo_isHull hW ok z hz) (by omega) (by omega) (by omega) ?_
  (try refine pb_Ex.run rfl ?_)
  unfold mo_in
  by_cases c : 0 ≤ z ∧ z ≤ F 0 0 - 1
  · rw [if_pos c, if_neg (by omega)]
    obtain ⟨k, rfl⟩ := Int.eq_ofNat_of_zero_le c.1
    rw [Int.toNat_natCast]
    have hh := ok.hull (k := k) (by omega)
    have hw := ok.wt (k := k) (by omega)
    have hwd := ok.wd (k := k) (by omega)
    have hdr := ya_dr_rg (ya_wd (F 0) k) (ya_wt (F 0) k)
    have htd := ok.tid (i := (F 0 1 % 12).toNat) (by omega)
    refine pb_Ex.ifT rfl (by omega) (by first | decide | (simp only [pb_cmp]; omega) | simp [pb_cmp]) ?_
    (try refine pb_Ex.run rfl ?_)
    refine pb_Ex.pV rfl rfl rfl rfl hW.1 rfl rfl (mo_state hW k (by omega)) (by omega) (by omega) (by omega) ?_
    (try refine pb_Ex.run rfl ?_)
    refine pb_Ex.if_eq rfl (by omega) (fun c4 => ?_) (fun c4 => ?_)
    · rw [if_neg (by omega)]
      refine pb_Ex.run rfl ?_
      refine pb_Ex.pV rfl rfl rfl rfl hW.1 rfl rfl (mo_weight hW k (by omega) (ok.fr (by omega))) (by omega) (by omega) (by omega) ?_
      (try refine pb_Ex.run rfl ?_)
      refine pb_Ex.pV rfl rfl rfl rfl hW.1 rfl rfl (mo_draught hW k (by omega) (ok.fr (by omega)) hwd (ya_wt (F 0) k) (by omega)) (by omega) (by omega) (by omega) ?_
      (try refine pb_Ex.run rfl ?_)
      refine pb_Ex.pV rfl rfl rfl rfl hW.1 rfl rfl (mo_frames hW k (by omega)) (by omega) (by omega) (by omega) ?_
      (try refine pb_Ex.run rfl ?_)
      have fin : ∀ y : Int, y = sp_why (F 0) k → pb_Ex G mX4_launchIt 6 0 0 (mo_Q o A h (some (pb_i (if 0 < sp_why (F 0) k then ((3 : Int), (-1 : Int), F 0, sp_why (F 0) k) else (0, ya_dr (ya_wd (F 0) k) (ya_wt (F 0) k), va_up (F 0) (21 + 28 * k) 1, 0)).2.1)) (mo_S (if (if 0 < sp_why (F 0) k then ((3 : Int), (-1 : Int), F 0, sp_why (F 0) k) else (0, ya_dr (ya_wd (F 0) k) (ya_wt (F 0) k), va_up (F 0) (21 + 28 * k) 1, 0)).2.2.2 = 0 then x else va_up x 8 (if 0 < sp_why (F 0) k then ((3 : Int), (-1 : Int), F 0, sp_why (F 0) k) else (0, ya_dr (ya_wd (F 0) k) (ya_wt (F 0) k), va_up (F 0) (21 + 28 * k) 1, 0)).2.2.2) (if 0 < sp_why (F 0) k then ((3 : Int), (-1 : Int), F 0, sp_why (F 0) k) else (0, ya_dr (ya_wd (F 0) k) (ya_wt (F 0) k), va_up (F 0) (21 + 28 * k) 1, 0)).1) (va_up F 0 (if 0 < sp_why (F 0) k then ((3 : Int), (-1 : Int), F 0, sp_why (F 0) k) else (0, ya_dr (ya_wd (F 0) k) (ya_wt (F 0) k), va_up (F 0) (21 + 28 * k) 1, 0)).2.2.1)) 0 0 82 [some (pb_r o), some (pb_i k), some (pb_i (ya_dr (ya_wd (F 0) k) (ya_wt (F 0) k))), some (pb_i y)] [pb_i y] h := by
        intro y hy
        have hyr : 0 ≤ y ∧ y ≤ 3 := by rw [hy]; unfold sp_why; split <;> (try split) <;> (try split) <;> omega
        refine pb_Ex.if_le rfl (by omega) (fun c9 => ?_) (fun c9 => ?_)
        · rw [← hy, if_neg (by omega)]
          refine pb_Ex.run rfl ?_
          refine pb_Ex.getf rfl rfl hW.1 rfl ?_
          (try refine pb_Ex.run rfl ?_)
          refine pb_Ex.pS rfl rfl rfl rfl (mo_hullAt (k : Int)) (by omega) (by omega) (by omega) ?_
          (try refine pb_Ex.run rfl ?_)
          have hW := hW.s0
          refine pb_Ex.ms0 (21 + 28 * k) rfl hW hf (by omega) (by omega) (fun h1 hW hf => ?_)
          (try refine pb_Ex.run rfl ?_)
          refine pb_Ex.iret rfl rfl (by omega) (by omega) (⟨rfl, hW, hf⟩)
        · rw [← hy, if_pos (by omega)]
          refine pb_Ex.run rfl ?_
          refine pb_Ex.mput (x' := va_up x 8 y) rfl rfl hW hf rfl rfl (by first | trivial | exact Or.inl rfl | exact Or.inr rfl | (show _ ∨ _; omega)) (fun h1 hW hf => ?_)
          (try refine pb_Ex.run rfl ?_)
          have hW := hW.s0
          have ey : ¬ y = 0 := by omega
          show pb_Ex _ _ _ _ _ (mo_Q o A _ _ (mo_S (if y = 0 then x else va_up x 8 y) 3) _) _ _ _ _ _ _
          rw [if_neg ey]
          refine pb_Ex.mc rfl rfl rfl rfl hW hf rfl rfl (mo_throwing hW (3)) (by omega) (by omega) (by omega) (fun h1 hW hf => ?_)
          (try refine pb_Ex.run rfl ?_)
          refine pb_Ex.iret rfl rfl (by omega) (by omega) ⟨rfl, hW, hf⟩
      refine pb_Ex.icmp_ge rfl (by omega) (by omega) (fun c5 => ?_) (fun c5 => ?_)
      · refine pb_Ex.run rfl ?_
        refine pb_Ex.icmp_ne rfl (by omega) (by omega) (fun c6 => ?_) (fun c6 => ?_)
        · refine pb_Ex.run rfl ?_
          refine pb_Ex.getf rfl rfl hW.1 rfl ?_
          (try refine pb_Ex.run rfl ?_)
          refine pb_Ex.iat (1) rfl hW.2.1 (by omega) (by omega) ?_
          (try refine pb_Ex.run rfl ?_)
          refine pb_Ex.pV rfl rfl rfl rfl hW.1 rfl rfl (mo_tide hW (F 0 1) (by omega)) (by omega) (by omega) (by omega) ?_
          (try refine pb_Ex.run rfl ?_)
          refine pb_Ex.icmp_le rfl (by omega) (by omega) (fun c7 => ?_) (fun c7 => ?_)
          · refine pb_Ex.run rfl ?_
            exact fin 0 (by unfold sp_why; rw [if_neg (by omega), if_neg (by omega), if_neg (by omega)])
          · refine pb_Ex.run rfl ?_
            exact fin 3 (by unfold sp_why; rw [if_neg (by omega), if_neg (by omega), if_pos (by omega)])
        · refine pb_Ex.run rfl ?_
          exact fin 2 (by unfold sp_why; rw [if_neg (by omega), if_pos (by omega)])
      · refine pb_Ex.run rfl ?_
        exact fin 1 (by unfold sp_why; rw [if_pos (by omega)])
    · rw [if_pos (by omega)]
      refine pb_Ex.run rfl ?_
      have hW := hW.s0
      refine pb_Ex.mc rfl rfl rfl rfl hW hf rfl rfl (mo_throwing hW (2)) (by omega) (by omega) (by omega) (fun h1 hW hf => ?_)
      (try refine pb_Ex.run rfl ?_)
      refine pb_Ex.iret rfl rfl (by omega) (by omega) ⟨rfl, hW, hf⟩
  · rw [if_neg c, if_pos (by omega)]
    refine pb_Ex.ifF rfl (by omega) (by first | decide | (simp only [pb_cmp]; omega) | simp [pb_cmp]) ?_
    (try refine pb_Ex.run rfl ?_)
    have hW := hW.s0
    refine pb_Ex.mc rfl rfl rfl rfl hW hf rfl rfl (mo_throwing hW (1)) (by omega) (by omega) (by omega) (fun h1 hW hf => ?_)
    (try refine pb_Ex.run rfl ?_)
    refine pb_Ex.iret rfl rfl (by omega) (by omega) ⟨rfl, hW, hf⟩
theorem mo_find (hW : mo_W h o A x F) (ok : ya_ok t (F 0)) (id : Int) (hid : pb_rg id) : pb_Ctr G mX4_find 1 0 0 [pb_r o, pb_i id] h (pb_P (some (pb_i (sp_find (F 0) id))) h) := by
  have h0 := ok.num
  refine pb_Ctr.of rfl rfl rfl tX4_find_ok rfl ?_
  (try refine pb_Ex.run rfl ?_)
  have loop : ∀ (m k : Nat) (z : Int), k + m = (F 0 2).toNat → z = k → pb_Ex G mX4_find 1 0 0 (pb_P (some (pb_i (sp_fd (F 0) id k m))) h) 0 0 2 [some (pb_r o), some (pb_i id), some (pb_i z)] [] h := by
    intro m
    induction m with
    | zero =>
      intro k z hk hz
      refine pb_Ex.run rfl ?_
      refine pb_Ex.getf rfl rfl hW.1 rfl ?_
      (try refine pb_Ex.run rfl ?_)
      refine pb_Ex.iat (2) rfl hW.2.1 (by omega) (by omega) ?_
      (try refine pb_Ex.run rfl ?_)
      refine pb_Ex.icmpT rfl (by omega) (by omega) (by first | decide | (simp only [pb_cmp]; omega) | simp [pb_cmp]) ?_
      (try refine pb_Ex.run rfl ?_)
      refine pb_Ex.iret rfl rfl (by omega) (by omega) (⟨rfl, rfl⟩)
    | succ m ih =>
      intro k z hk hz
      refine pb_Ex.run rfl ?_
      refine pb_Ex.getf rfl rfl hW.1 rfl ?_
      (try refine pb_Ex.run rfl ?_)
      refine pb_Ex.iat (2) rfl hW.2.1 (by omega) (by omega) ?_
      (try refine pb_Ex.run rfl ?_)
      refine pb_Ex.icmpF rfl (by omega) (by omega) (by first | decide | (simp only [pb_cmp]; omega) | simp [pb_cmp]) ?_
      (try refine pb_Ex.run rfl ?_)
      subst hz
      refine pb_Ex.getf rfl rfl hW.1 rfl ?_
      (try refine pb_Ex.run rfl ?_)
      refine pb_Ex.iat (189 + 4 * k) rfl hW.2.1 (by omega) (by omega) ?_
      (try refine pb_Ex.run rfl ?_)
      have ho := ok.ord (k := k) (by omega) (by omega)
      refine pb_Ex.icmp_ne rfl (by omega) (by omega) (fun c => ?_) (fun c => ?_)
      · refine pb_Ex.run rfl ?_
        unfold sp_fd
        rw [if_neg c]
        exact ih (k + 1) _ (by omega) (by omega)
      · refine pb_Ex.run rfl ?_
        unfold sp_fd
        rw [if_pos c]
        refine pb_Ex.iret rfl rfl (by omega) (by omega) (⟨rfl, rfl⟩)
  exact loop _ 0 0 (by omega) rfl
theorem sp_fd_rg (f : Nat → Int) (id : Int) : ∀ (n k : Nat), sp_fd f id k n = -1 ∨ (k ≤ sp_fd f id k n ∧ sp_fd f id k n < k + n)
  | 0, _ => Or.inl rfl
  | n + 1, k => by
    unfold sp_fd
    split
    · exact Or.inr (by omega)
    · rcases sp_fd_rg f id n (k + 1) with h | h
      · exact Or.inl h
      · refine Or.inr ?_
        push_cast at h
        omega
theorem sp_find_rg {t : Nat} {f : Nat → Int} (ok : ya_ok t f) (id : Int) : sp_find f id = -1 ∨ (0 ≤ sp_find f id ∧ sp_find f id < f 2) := by
  have := sp_fd_rg f id (f 2).toNat 0
  have := ok.num
  unfold sp_find
  omega
theorem sp_coins_rg {t : Nat} {f : Nat → Int} (ok : ya_ok t f) {k : Nat} (hk : k < 6) (h0 : (k : Int) < f 2) : 0 ≤ sp_coins f k ∧ sp_coins f k ≤ 999 := by
  have := ok.ord hk h0
  unfold sp_coins
  omega
theorem mo_coins (hW : mo_W h o A x F) (ok : ya_ok t (F 0)) (k : Nat) (hk : k < 6) (h9 : (k : Int) < F 0 2) : pb_Ctr G mX4_coins 2 0 0 [pb_r o, pb_i k] h (pb_P (some (pb_i (sp_coins (F 0) k))) h) := by
  have h0 := ok.num
  have h1 := ok.ord hk h9
  refine pb_Ctr.of rfl rfl rfl tX4_coins_ok rfl ?_
  (try refine pb_Ex.run rfl ?_)
  refine pb_Ex.getf rfl rfl hW.1 rfl ?_
  (try refine pb_Ex.run rfl ?_)
  refine pb_Ex.iat (192 + 4 * k) rfl hW.2.1 (by omega) (by omega) ?_
  (try refine pb_Ex.run rfl ?_)
  refine pb_Ex.getf rfl rfl hW.1 rfl ?_
  (try refine pb_Ex.run rfl ?_)
  refine pb_Ex.iat (1) rfl hW.2.1 (by omega) (by omega) ?_
  (try refine pb_Ex.run rfl ?_)
  refine pb_Ex.getf rfl rfl hW.1 rfl ?_
  (try refine pb_Ex.run rfl ?_)
  refine pb_Ex.iat (191 + 4 * k) rfl hW.2.1 (by omega) (by omega) ?_
  (try refine pb_Ex.run rfl ?_)
  refine pb_Ex.mmax rfl rfl (by omega) (by omega) rfl (by omega) (by omega) (by omega) ?_
  (try refine pb_Ex.run rfl ?_)
  refine pb_Ex.mmax rfl rfl (by omega) (by omega) rfl (by omega) (by omega) (by omega) ?_
  (try refine pb_Ex.run rfl ?_)
  refine pb_Ex.iret rfl rfl (by omega) (by omega) (⟨rfl, rfl⟩)
theorem mo_orderIt (hW : mo_W h o A x F) (ok : ya_ok t (F 0)) (a b c : Int) (ha : pb_rg a) (hb : pb_rg b) (hc : pb_rg c) : pb_Ctr G mX4_orderIt 5 0 0 [pb_r o, pb_i a, pb_i b, pb_i c] h (mo_Q o A h (some (pb_i (sp_order (F 0) a b c).2.1)) (mo_S x (sp_order (F 0) a b c).1) (va_up F 0 (sp_order (F 0) a b c).2.2)) := by
  have hf : mo_Fr o A h h := mo_Fr.rf
  have h0 := ok.num
  unfold sp_order
  refine pb_Ctr.of rfl rfl rfl tX4_orderIt_ok rfl ?_
  (try refine pb_Ex.run rfl ?_)
  refine pb_Ex.i2l rfl (by omega) ?_
  (try refine pb_Ex.run rfl ?_)
  refine pb_Ex.ldc2 rfl rfl rfl ?_
  (try refine pb_Ex.run rfl ?_)
  refine pb_Ex.ldc2 rfl rfl rfl ?_
  (try refine pb_Ex.run rfl ?_)
  refine pb_Ex.pS rfl rfl rfl rfl (mo_inn a 2 8 (by omega) (by omega) (by omega)) (by omega) (by omega) (by omega) ?_
  (try refine pb_Ex.run rfl ?_)
  unfold mo_in
  by_cases c1 : 2 ≤ a ∧ a ≤ 8
  · rw [if_pos c1]
    refine pb_Ex.ifF rfl (by omega) (by first | decide | (simp only [pb_cmp]; omega) | simp [pb_cmp]) ?_
    (try refine pb_Ex.run rfl ?_)
    refine pb_Ex.i2l rfl (by omega) ?_
    (try refine pb_Ex.run rfl ?_)
    refine pb_Ex.ldc2 rfl rfl rfl ?_
    (try refine pb_Ex.run rfl ?_)
    refine pb_Ex.pS rfl rfl rfl rfl (mo_inn b 0 999 (by omega) (by omega) (by omega)) (by omega) (by omega) (by omega) ?_
    (try refine pb_Ex.run rfl ?_)
    unfold mo_in
    by_cases c2 : 0 ≤ b ∧ b ≤ 999
    · rw [if_pos c2]
      refine pb_Ex.ifF rfl (by omega) (by first | decide | (simp only [pb_cmp]; omega) | simp [pb_cmp]) ?_
      (try refine pb_Ex.run rfl ?_)
      refine pb_Ex.i2l rfl (by omega) ?_
      (try refine pb_Ex.run rfl ?_)
      refine pb_Ex.ldc2 rfl rfl rfl ?_
      (try refine pb_Ex.run rfl ?_)
      refine pb_Ex.pS rfl rfl rfl rfl (mo_inn c 1 999 (by omega) (by omega) (by omega)) (by omega) (by omega) (by omega) ?_
      (try refine pb_Ex.run rfl ?_)
      unfold mo_in
      by_cases c3 : 1 ≤ c ∧ c ≤ 999
      · rw [if_pos c3, if_neg (by omega)]
        refine pb_Ex.ifT rfl (by omega) (by first | decide | (simp only [pb_cmp]; omega) | simp [pb_cmp]) ?_
        (try refine pb_Ex.run rfl ?_)
        refine pb_Ex.getf rfl rfl hW.1 rfl ?_
        (try refine pb_Ex.run rfl ?_)
        refine pb_Ex.iat (2) rfl hW.2.1 (by omega) (by omega) ?_
        (try refine pb_Ex.run rfl ?_)
        refine pb_Ex.icmp_ne rfl (by omega) (by omega) (fun c4 => ?_) (fun c4 => ?_)
        · rw [if_neg c4]
          refine pb_Ex.run rfl ?_
          refine pb_Ex.getf rfl rfl hW.1 rfl ?_
          (try refine pb_Ex.run rfl ?_)
          refine pb_Ex.iat (2) rfl hW.2.1 (by omega) (by omega) ?_
          (try refine pb_Ex.run rfl ?_)
          obtain ⟨q, hq⟩ := Int.eq_ofNat_of_zero_le h0.2.2.2.2.1
          have hq2 : (F 0 2).toNat = q := by omega
          rw [hq2]
          refine pb_Ex.getf rfl rfl hW.1 rfl ?_
          (try refine pb_Ex.run rfl ?_)
          refine pb_Ex.getf rfl rfl hW.1 rfl ?_
          (try refine pb_Ex.run rfl ?_)
          refine pb_Ex.iat (3) rfl hW.2.1 (by omega) (by omega) ?_
          (try refine pb_Ex.run rfl ?_)
          have hW := hW.s0
          refine pb_Ex.ms0 (189 + 4 * q) rfl hW hf (by omega) (by omega) (fun h1 hW hf => ?_)
          (try refine pb_Ex.run rfl ?_)
          refine pb_Ex.getf rfl rfl hW.1 rfl ?_
          (try refine pb_Ex.run rfl ?_)
          refine pb_Ex.ms0 (190 + 4 * q) rfl hW hf (by omega) (by omega) (fun h1 hW hf => ?_)
          (try refine pb_Ex.run rfl ?_)
          refine pb_Ex.getf rfl rfl hW.1 rfl ?_
          (try refine pb_Ex.run rfl ?_)
          refine pb_Ex.ms0 (191 + 4 * q) rfl hW hf (by omega) (by omega) (fun h1 hW hf => ?_)
          (try refine pb_Ex.run rfl ?_)
          refine pb_Ex.getf rfl rfl hW.1 rfl ?_
          (try refine pb_Ex.run rfl ?_)
          refine pb_Ex.ms0 (192 + 4 * q) rfl hW hf (by omega) (by omega) (fun h1 hW hf => ?_)
          (try refine pb_Ex.run rfl ?_)
          refine pb_Ex.getf rfl rfl hW.1 rfl ?_
          (try refine pb_Ex.run rfl ?_)
          refine pb_Ex.iat (2) rfl hW.m0 (by omega) (by omega) ?_
          (try refine pb_Ex.run rfl ?_)
          rw [va_upN _ _ (by omega), va_upN _ _ (by omega), va_upN _ _ (by omega), va_upN _ _ (by omega)]
          refine pb_Ex.ms0 (2) rfl hW hf (by omega) (by omega) (fun h1 hW hf => ?_)
          (try refine pb_Ex.run rfl ?_)
          refine pb_Ex.getf rfl rfl hW.1 rfl ?_
          (try refine pb_Ex.run rfl ?_)
          refine pb_Ex.iat (3) rfl hW.m0 (by omega) (by omega) ?_
          (try refine pb_Ex.run rfl ?_)
          rw [va_upN _ _ (by omega), va_upN _ _ (by omega), va_upN _ _ (by omega), va_upN _ _ (by omega), va_upN _ _ (by omega)]
          refine pb_Ex.ms0 (3) rfl hW hf (by omega) (by omega) (fun h1 hW hf => ?_)
          (try refine pb_Ex.run rfl ?_)
          refine pb_Ex.getf rfl rfl hW.1 rfl ?_
          (try refine pb_Ex.run rfl ?_)
          refine pb_Ex.iat (189 + 4 * q) rfl hW.m0 (by omega) (by omega) ?_
          (try refine pb_Ex.run rfl ?_)
          rw [va_upN _ _ (by omega), va_upN _ _ (by omega), va_upN _ _ (by omega), va_upN _ _ (by omega), va_upN _ _ (by omega), va_upS]
          refine pb_Ex.iret rfl rfl (by omega) (by omega) (⟨rfl, hW, hf⟩)
        · rw [if_pos c4]
          refine pb_Ex.run rfl ?_
          have hW := hW.s0
          refine pb_Ex.mc rfl rfl rfl rfl hW hf rfl rfl (mo_throwing hW (2)) (by omega) (by omega) (by omega) (fun h1 hW hf => ?_)
          (try refine pb_Ex.run rfl ?_)
          refine pb_Ex.iret rfl rfl (by omega) (by omega) ⟨rfl, hW, hf⟩
      · rw [if_neg c3, if_pos (by omega)]
        refine pb_Ex.ifF rfl (by omega) (by first | decide | (simp only [pb_cmp]; omega) | simp [pb_cmp]) ?_
        (try refine pb_Ex.run rfl ?_)
        have hW := hW.s0
        refine pb_Ex.mc rfl rfl rfl rfl hW hf rfl rfl (mo_throwing hW (1)) (by omega) (by omega) (by omega) (fun h1 hW hf => ?_)
        (try refine pb_Ex.run rfl ?_)
        refine pb_Ex.iret rfl rfl (by omega) (by omega) ⟨rfl, hW, hf⟩
    · rw [if_neg c2, if_pos (by omega)]
      refine pb_Ex.ifT rfl (by omega) (by first | decide | (simp only [pb_cmp]; omega) | simp [pb_cmp]) ?_
      (try refine pb_Ex.run rfl ?_)
      have hW := hW.s0
      refine pb_Ex.mc rfl rfl rfl rfl hW hf rfl rfl (mo_throwing hW (1)) (by omega) (by omega) (by omega) (fun h1 hW hf => ?_)
      (try refine pb_Ex.run rfl ?_)
      refine pb_Ex.iret rfl rfl (by omega) (by omega) ⟨rfl, hW, hf⟩
  · rw [if_neg c1, if_pos (by omega)]
    refine pb_Ex.ifT rfl (by omega) (by first | decide | (simp only [pb_cmp]; omega) | simp [pb_cmp]) ?_
    (try refine pb_Ex.run rfl ?_)
    have hW := hW.s0
    refine pb_Ex.mc rfl rfl rfl rfl hW hf rfl rfl (mo_throwing hW (1)) (by omega) (by omega) (by omega) (fun h1 hW hf => ?_)
    (try refine pb_Ex.run rfl ?_)
    refine pb_Ex.iret rfl rfl (by omega) (by omega) ⟨rfl, hW, hf⟩
theorem mo_deliverIt (hW : mo_W h o A x F) (ok : ya_ok t (F 0)) (id z : Int) (hid : pb_rg id) (hz : pb_rg z) : pb_Ctr G mX4_deliverIt 5 0 0 [pb_r o, pb_i id, pb_i z] h (mo_Q o A h (some (pb_i (sp_deliver (F 0) id z).2.1)) (mo_S x (sp_deliver (F 0) id z).1) (va_up F 0 (sp_deliver (F 0) id z).2.2)) := by
  have hf : mo_Fr o A h h := mo_Fr.rf
  have h0 := ok.num
  unfold sp_deliver
  refine pb_Ctr.of rfl rfl rfl tX4_deliverIt_ok rfl ?_
  (try refine pb_Ex.run rfl ?_)
  refine pb_Ex.pV rfl rfl rfl rfl hW.1 rfl rfl (mo_find hW ok id hid) (by omega) (by omega) (by omega) ?_
  (try refine pb_Ex.run rfl ?_)
  rcases sp_find_rg ok id with e | e
  · rw [e, if_pos rfl]
    refine pb_Ex.icmpF rfl (by omega) (by omega) (by first | decide | (simp only [pb_cmp]; omega) | simp [pb_cmp]) ?_
    (try refine pb_Ex.run rfl ?_)
    have hW := hW.s0
    refine pb_Ex.mc rfl rfl rfl rfl hW hf rfl rfl (mo_throwing hW (1)) (by omega) (by omega) (by omega) (fun h1 hW hf => ?_)
    (try refine pb_Ex.run rfl ?_)
    refine pb_Ex.iret rfl rfl (by omega) (by omega) ⟨rfl, hW, hf⟩
  · rw [if_neg (by omega)]
    refine pb_Ex.icmpT rfl (by omega) (by omega) (by first | decide | (simp only [pb_cmp]; omega) | simp [pb_cmp]) ?_
    (try refine pb_Ex.run rfl ?_)
    refine pb_Ex.pV rfl rfl rfl rfl hW.1 rfl rfl (mo_isHull hW ok z hz) (by omega) (by omega) (by omega) ?_
    (try refine pb_Ex.run rfl ?_)
    unfold mo_in
    by_cases c : 0 ≤ z ∧ z ≤ F 0 0 - 1
    · rw [if_pos c, if_neg (by omega)]
      obtain ⟨k, rfl⟩ := Int.eq_ofNat_of_zero_le c.1
      rw [Int.toNat_natCast]
      have hh := ok.hull (k := k) (by omega)
      obtain ⟨p, hp⟩ := Int.eq_ofNat_of_zero_le e.1
      rw [hp] at e ⊢
      rw [Int.toNat_natCast]
      have hor := ok.ord (k := p) (by omega) (by omega)
      have hco := sp_coins_rg ok (k := p) (by omega) (by omega)
      refine pb_Ex.ifT rfl (by omega) (by first | decide | (simp only [pb_cmp]; omega) | simp [pb_cmp]) ?_
      (try refine pb_Ex.run rfl ?_)
      refine pb_Ex.pV rfl rfl rfl rfl hW.1 rfl rfl (mo_state hW k (by omega)) (by omega) (by omega) (by omega) ?_
      (try refine pb_Ex.run rfl ?_)
      refine pb_Ex.icmp_ne rfl (by omega) (by omega) (fun c2 => ?_) (fun c2 => ?_)
      · rw [if_pos (Or.inl c2)]
        refine pb_Ex.run rfl ?_
        have hW := hW.s0
        refine pb_Ex.mc rfl rfl rfl rfl hW hf rfl rfl (mo_throwing hW (3)) (by omega) (by omega) (by omega) (fun h1 hW hf => ?_)
        (try refine pb_Ex.run rfl ?_)
        refine pb_Ex.iret rfl rfl (by omega) (by omega) ⟨rfl, hW, hf⟩
      · refine pb_Ex.run rfl ?_
        refine pb_Ex.pV rfl rfl rfl rfl hW.1 rfl rfl (mo_frames hW k (by omega)) (by omega) (by omega) (by omega) ?_
        (try refine pb_Ex.run rfl ?_)
        refine pb_Ex.getf rfl rfl hW.1 rfl ?_
        (try refine pb_Ex.run rfl ?_)
        refine pb_Ex.iat (190 + 4 * p) rfl hW.2.1 (by omega) (by omega) ?_
        (try refine pb_Ex.run rfl ?_)
        refine pb_Ex.icmp_eq rfl (by omega) (by omega) (fun c3 => ?_) (fun c3 => ?_)
        · rw [if_neg (by omega)]
          refine pb_Ex.run rfl ?_
          refine pb_Ex.pV rfl rfl rfl rfl hW.1 rfl rfl (mo_coins hW ok p (by omega) (by omega)) (by omega) (by omega) (by omega) ?_
          (try refine pb_Ex.run rfl ?_)
          refine pb_Ex.getf rfl rfl hW.1 rfl ?_
          (try refine pb_Ex.run rfl ?_)
          have hW := hW.s0
          refine pb_Ex.iat (4) rfl hW.m0 (by omega) (by omega) ?_
          (try refine pb_Ex.run rfl ?_)
          refine pb_Ex.ms0 (4) rfl hW hf (by omega) (by omega) (fun h1 hW hf => ?_)
          (try refine pb_Ex.run rfl ?_)
          refine pb_Ex.getf rfl rfl hW.1 rfl ?_
          (try refine pb_Ex.run rfl ?_)
          refine pb_Ex.pS rfl rfl rfl rfl (mo_hullAt (k : Int)) (by omega) (by omega) (by omega) ?_
          (try refine pb_Ex.run rfl ?_)
          refine pb_Ex.ms0 (21 + 28 * k) rfl hW hf (by omega) (by omega) (fun h1 hW hf => ?_)
          (try refine pb_Ex.run rfl ?_)
          generalize hg : va_up (va_up (F 0) 4 (F 0 4 + sp_coins (F 0) p)) (21 + 28 * k) 2 = g at hW
          have loop2 : ∀ (m j : Nat) (h' : pb_H) (z : Int), j + m = 213 → 209 ≤ j → z = j → mo_W h' o A x (va_up F 0 (fun i => if 189 + 4 * p ≤ i ∧ i < 209 then g (i + 4) else if 209 ≤ i ∧ i < j then 0 else g i)) → mo_Fr o A h h' → pb_Ex G mX4_deliverIt 5 0 0 (mo_Q o A h (some (pb_i (sp_coins (F 0) p))) x (va_up F 0 (va_up (sp_mv g p) 2 (F 0 2 - 1)))) 0 0 140 [some (pb_r o), some (pb_i id), some (pb_i k), some (pb_i p), some (pb_i (sp_coins (F 0) p)), some (pb_i z)] [] h' := by
            intro m
            induction m with
            | zero =>
              intro j h' z hj hj2 hz hW hf
              have ej : j = 213 := by omega
              subst ej
              refine pb_Ex.run rfl ?_
              refine pb_Ex.icmpT rfl (by omega) (by omega) (by first | decide | (simp only [pb_cmp]; omega) | simp [pb_cmp]) ?_
              (try refine pb_Ex.run rfl ?_)
              refine pb_Ex.getf rfl rfl hW.1 rfl ?_
              (try refine pb_Ex.run rfl ?_)
              refine pb_Ex.iat (2) rfl hW.m0 (by omega) (by omega) ?_
              (try refine pb_Ex.run rfl ?_)
              have e2 : g 2 = F 0 2 := by rw [← hg, va_upN _ _ (by omega), va_upN _ _ (by omega)]
              rw [if_neg (by omega), if_neg (by omega), e2]
              refine pb_Ex.ms0 (2) rfl hW hf (by omega) (by omega) (fun h1 hW hf => ?_)
              (try refine pb_Ex.run rfl ?_)
              refine pb_Ex.iret rfl rfl (by omega) (by omega) (⟨rfl, hW, hf⟩)
            | succ m ih =>
              intro j h' z hj hj2 hz hW hf
              refine pb_Ex.run rfl ?_
              refine pb_Ex.icmpF rfl (by omega) (by omega) (by first | decide | (simp only [pb_cmp]; omega) | simp [pb_cmp]) ?_
              (try refine pb_Ex.run rfl ?_)
              subst hz
              refine pb_Ex.getf rfl rfl hW.1 rfl ?_
              (try refine pb_Ex.run rfl ?_)
              refine pb_Ex.ms0 (j) rfl hW hf (by omega) (by omega) (fun h1 hW hf => ?_)
              (try refine pb_Ex.run rfl ?_)
              refine ih (j + 1) _ _ (by omega) (by omega) (by omega) (hW.eqF ?_) hf
              congr 1
              funext i
              by_cases h9 : i = j
              · subst h9
                rw [va_upS, if_neg (by omega), if_pos (by omega)]
              · rw [va_upN _ _ h9]
                by_cases h8 : 189 + 4 * p ≤ i ∧ i < 209
                · rw [if_pos h8, if_pos h8]
                · rw [if_neg h8, if_neg h8]
                  by_cases h7 : 209 ≤ i ∧ i < j
                  · rw [if_pos h7, if_pos (by omega)]
                  · rw [if_neg h7, if_neg (by omega)]
          have loop1 : ∀ (m j : Nat) (h' : pb_H) (z : Int), j + m = 209 → 189 + 4 * p ≤ j → z = j → mo_W h' o A x (va_up F 0 (fun i => if 189 + 4 * p ≤ i ∧ i < j then g (i + 4) else g i)) → mo_Fr o A h h' → pb_Ex G mX4_deliverIt 5 0 0 (mo_Q o A h (some (pb_i (sp_coins (F 0) p))) x (va_up F 0 (va_up (sp_mv g p) 2 (F 0 2 - 1)))) 0 0 105 [some (pb_r o), some (pb_i id), some (pb_i k), some (pb_i p), some (pb_i (sp_coins (F 0) p)), some (pb_i z)] [] h' := by
            intro m
            induction m with
            | zero =>
              intro j h' z hj hj2 hz hW hf
              have ej : j = 209 := by omega
              subst ej
              refine pb_Ex.run rfl ?_
              refine pb_Ex.icmpT rfl (by omega) (by omega) (by first | decide | (simp only [pb_cmp]; omega) | simp [pb_cmp]) ?_
              (try refine pb_Ex.run rfl ?_)
              refine loop2 4 209 _ _ (by omega) (by omega) rfl (hW.eqF ?_) hf
              congr 1
              funext i
              by_cases h8 : 189 + 4 * p ≤ i ∧ i < 209
              · rw [if_pos h8, if_pos h8]
              · rw [if_neg h8, if_neg h8, if_neg (by omega)]
            | succ m ih =>
              intro j h' z hj hj2 hz hW hf
              refine pb_Ex.run rfl ?_
              refine pb_Ex.icmpF rfl (by omega) (by omega) (by first | decide | (simp only [pb_cmp]; omega) | simp [pb_cmp]) ?_
              (try refine pb_Ex.run rfl ?_)
              subst hz
              refine pb_Ex.getf rfl rfl hW.1 rfl ?_
              (try refine pb_Ex.run rfl ?_)
              refine pb_Ex.getf rfl rfl hW.1 rfl ?_
              (try refine pb_Ex.run rfl ?_)
              refine pb_Ex.iat (j + 4) rfl hW.m0 (by omega) (by omega) ?_
              (try refine pb_Ex.run rfl ?_)
              rw [if_neg (by omega)]
              refine pb_Ex.ms0 (j) rfl hW hf (by omega) (by omega) (fun h1 hW hf => ?_)
              (try refine pb_Ex.run rfl ?_)
              refine ih (j + 1) _ _ (by omega) (by omega) (by omega) (hW.eqF ?_) hf
              congr 1
              funext i
              by_cases h9 : i = j
              · subst h9
                rw [va_upS, if_pos (by omega)]
              · rw [va_upN _ _ h9]
                by_cases h8 : 189 + 4 * p ≤ i ∧ i < j
                · rw [if_pos h8, if_pos (by omega)]
                · rw [if_neg h8, if_neg (by omega)]
          refine loop1 (209 - (189 + 4 * p)) (189 + 4 * p) _ _ (by omega) (by omega) (by omega) (hW.eqF ?_) hf
          congr 1
          funext i
          rw [if_neg (by omega)]
        · rw [if_pos (Or.inr c3)]
          refine pb_Ex.run rfl ?_
          have hW := hW.s0
          refine pb_Ex.mc rfl rfl rfl rfl hW hf rfl rfl (mo_throwing hW (3)) (by omega) (by omega) (by omega) (fun h1 hW hf => ?_)
          (try refine pb_Ex.run rfl ?_)
          refine pb_Ex.iret rfl rfl (by omega) (by omega) ⟨rfl, hW, hf⟩
    · rw [if_neg c, if_pos (by omega)]
      refine pb_Ex.ifF rfl (by omega) (by first | decide | (simp only [pb_cmp]; omega) | simp [pb_cmp]) ?_
      (try refine pb_Ex.run rfl ?_)
      have hW := hW.s0
      refine pb_Ex.mc rfl rfl rfl rfl hW hf rfl rfl (mo_throwing hW (2)) (by omega) (by omega) (by omega) (fun h1 hW hf => ?_)
      (try refine pb_Ex.run rfl ?_)
      refine pb_Ex.iret rfl rfl (by omega) (by omega) ⟨rfl, hW, hf⟩
end MODEL3
