set_option maxRecDepth 100000
section MODEL10
variable {G : pb_G} {h : pb_H} {o : Nat} {A : Nat → Nat} {x : Nat → Int} {F : Nat → Nat → Int} {t : Nat} {g : Nat → Int}
theorem ya_dr_rgF (wide w : Int) : ∀ (n d : Nat), ya_drF wide w d n = -1 ∨ (0 ≤ ya_drF wide w d n ∧ ya_drF wide w d n < d + n)
  | 0, _ => Or.inl rfl
  | n + 1, d => by
    unfold ya_drF
    split
    · exact Or.inr (by omega)
    · rcases ya_dr_rgF wide w n (d + 1) with h | h
      · exact Or.inl h
      · refine Or.inr ?_
        push_cast at h
        omega
theorem ya_tl_rg (f : Nat → Int) (d : Int) : ∀ (m n : Nat), (n : Int) ≤ ya_tl f d n m ∧ ya_tl f d n m ≤ n + m
  | 0, n => by unfold ya_tl; omega
  | m + 1, n => by
    have := ya_tl_rg f d m (n + 1)
    unfold ya_tl
    split <;> (push_cast at *; omega)
theorem mo_hoursToLaunch (hW : mo_W h o A x F) (ok : ya_ok t (F 0)) (z : Int) (hz : pb_rg z) : pb_Ctr G mX4_hoursToLaunch 5 0 0 [pb_r o, pb_i z] h (mo_Q o A h (some (pb_i (qs_launch (F 0) z).2)) (va_up x 9 (qs_launch (F 0) z).1) F) := by
  have := ok.num
  unfold qs_launch
  have hf : mo_Fr o A h h := mo_Fr.rf
  refine pb_Ctr.of rfl rfl rfl tX4_hoursToLaunch_ok rfl ?_
  (try refine pb_Ex.run rfl ?_)
  refine pb_Ex.mput (x' := va_up x 9 0) rfl rfl hW hf rfl rfl trivial (fun h1 hW hf => ?_)
  (try refine pb_Ex.run rfl ?_)
  refine pb_Ex.pV rfl rfl rfl rfl hW.1 rfl rfl (mo_isHull hW ok z hz) (by omega) (by omega) (by omega) ?_
  (try refine pb_Ex.run rfl ?_)
  unfold mo_in
  by_cases c : 0 ≤ z ∧ z ≤ F 0 0 - 1
  · rw [if_pos c, if_neg (show ¬ ¬ (0 ≤ z ∧ z < F 0 0) by omega)]
    obtain ⟨k, rfl⟩ := Int.eq_ofNat_of_zero_le c.1
    rw [Int.toNat_natCast]
    have hw := ok.wt (k := k) (by omega)
    have hwd := ok.wd (k := k) (by omega)
    have hdr := ya_dr_rg (ya_wd (F 0) k) (ya_wt (F 0) k)
    have hh := ok.hull (k := k) (by omega)
    refine pb_Ex.ifT rfl (by omega) (by first | decide | (simp only [pb_cmp]; omega) | simp [pb_cmp]) ?_
    (try refine pb_Ex.run rfl ?_)
    refine pb_Ex.pV rfl rfl rfl rfl hW.1 rfl rfl (mo_state hW k (by omega)) (by omega) (by omega) (by omega) ?_
    (try refine pb_Ex.run rfl ?_)
    refine pb_Ex.if_eq rfl (by omega) (fun c2 => ?_) (fun c2 => ?_)
    · rw [if_neg (show ¬ (F 0 (21 + 28 * k) ≠ 0) by omega)]
      refine pb_Ex.run rfl ?_
      refine pb_Ex.pV rfl rfl rfl rfl hW.1 rfl rfl (mo_weight hW k (by omega) (ok.fr (by omega))) (by omega) (by omega) (by omega) ?_
      (try refine pb_Ex.run rfl ?_)
      refine pb_Ex.pV rfl rfl rfl rfl hW.1 rfl rfl (mo_draught hW k (by omega) (ok.fr (by omega)) hwd (ya_wt (F 0) k) (by omega)) (by omega) (by omega) (by omega) ?_
      (try refine pb_Ex.run rfl ?_)
      refine pb_Ex.pV rfl rfl rfl rfl hW.1 rfl rfl (mo_frames hW k (by omega)) (by omega) (by omega) (by omega) ?_
      (try refine pb_Ex.run rfl ?_)
      refine pb_Ex.icmp_lt rfl (by omega) (by omega) (fun c3 => ?_) (fun c3 => ?_)
      · rw [if_pos (Or.inl c3)]
        refine pb_Ex.run rfl ?_
        refine pb_Ex.mc rfl rfl rfl rfl hW hf rfl rfl (mo_throwing hW (3)) (by omega) (by omega) (by omega) (fun h1 hW hf => ?_)
        (try refine pb_Ex.run rfl ?_)
        refine pb_Ex.iret rfl rfl (by omega) (by omega) ⟨rfl, hW.eqx (va_upup _ _ _ _), hf⟩
      · refine pb_Ex.run rfl ?_
        refine pb_Ex.icmp_ne rfl (by omega) (by omega) (fun c4 => ?_) (fun c4 => ?_)
        · rw [if_neg (show ¬ (F 0 (22 + 28 * k) < 2 ∨ ya_dr (ya_wd (F 0) k) (ya_wt (F 0) k) = -1) by omega)]
          refine pb_Ex.run rfl ?_
          have loop : ∀ (m n : Nat) (z : Int), n + m = 12 → z = n → pb_Ex G mX4_hoursToLaunch 5 0 0 (mo_Q o A h (some (pb_i (if ya_tl (F 0) (ya_dr (ya_wd (F 0) k) (ya_wt (F 0) k)) n m = 12 then ((3 : Int), (-1 : Int)) else (0, ya_tl (F 0) (ya_dr (ya_wd (F 0) k) (ya_wt (F 0) k)) n m)).2)) (va_up x 9 (if ya_tl (F 0) (ya_dr (ya_wd (F 0) k) (ya_wt (F 0) k)) n m = 12 then ((3 : Int), (-1 : Int)) else (0, ya_tl (F 0) (ya_dr (ya_wd (F 0) k) (ya_wt (F 0) k)) n m)).1) F) 0 0 66 [some (pb_r o), some (pb_i k), some (pb_i (ya_dr (ya_wd (F 0) k) (ya_wt (F 0) k))), some (pb_i z)] [] h1 := by
            intro m
            induction m with
            | zero =>
              intro n z hn hz
              have e : n = 12 := by omega
              subst e hz
              refine pb_Ex.run rfl ?_
              refine pb_Ex.icmpT rfl (by omega) (by omega) (by first | decide | (simp only [pb_cmp]; omega) | simp [pb_cmp]) ?_
              (try refine pb_Ex.run rfl ?_)
              refine pb_Ex.icmpF rfl (by omega) (by omega) (by first | decide | (simp only [pb_cmp]; omega) | simp [pb_cmp]) ?_
              (try refine pb_Ex.run rfl ?_)
              unfold ya_tl
              refine pb_Ex.mc rfl rfl rfl rfl hW hf rfl rfl (mo_throwing hW (3)) (by omega) (by omega) (by omega) (fun h1 hW hf => ?_)
              (try refine pb_Ex.run rfl ?_)
              refine pb_Ex.iret rfl rfl (by omega) (by omega) ⟨rfl, hW.eqx (va_upup _ _ _ _), hf⟩
            | succ m ih =>
              intro n z hn hz
              subst hz
              refine pb_Ex.run rfl ?_
              refine pb_Ex.icmpF rfl (by omega) (by omega) (by first | decide | (simp only [pb_cmp]; omega) | simp [pb_cmp]) ?_
              (try refine pb_Ex.run rfl ?_)
              refine pb_Ex.getf rfl rfl hW.1 rfl ?_
              (try refine pb_Ex.run rfl ?_)
              refine pb_Ex.iat (1) rfl hW.2.1 (by omega) (by omega) ?_
              (try refine pb_Ex.run rfl ?_)
              have ht := ok.tid (i := ((F 0 1 + n) % 12).toNat) (by omega)
              refine pb_Ex.pV rfl rfl rfl rfl hW.1 rfl rfl (mo_tide hW (F 0 1 + n) (by omega)) (by omega) (by omega) (by omega) ?_
              (try refine pb_Ex.run rfl ?_)
              refine pb_Ex.icmp_ge rfl (by omega) (by omega) (fun c5 => ?_) (fun c5 => ?_)
              · have e : ya_tl (F 0) (ya_dr (ya_wd (F 0) k) (ya_wt (F 0) k)) n (m + 1) = n := by rw [ya_tl, if_neg (by omega)]
                rw [e, if_neg (by omega)]
                refine pb_Ex.run rfl ?_
                refine pb_Ex.icmpT rfl (by omega) (by omega) (by first | decide | (simp only [pb_cmp]; omega) | simp [pb_cmp]) ?_
                (try refine pb_Ex.run rfl ?_)
                refine pb_Ex.iret rfl rfl (by omega) (by omega) (⟨rfl, hW, hf⟩)
              · have e : ya_tl (F 0) (ya_dr (ya_wd (F 0) k) (ya_wt (F 0) k)) n (m + 1) = ya_tl (F 0) (ya_dr (ya_wd (F 0) k) (ya_wt (F 0) k)) (n + 1) m := by rw [ya_tl, if_pos (by omega)]
                rw [e]
                refine pb_Ex.run rfl ?_
                exact ih (n + 1) _ (by omega) (by omega)
          exact loop 12 0 0 (by omega) rfl
        · rw [if_pos (Or.inr c4)]
          refine pb_Ex.run rfl ?_
          refine pb_Ex.mc rfl rfl rfl rfl hW hf rfl rfl (mo_throwing hW (3)) (by omega) (by omega) (by omega) (fun h1 hW hf => ?_)
          (try refine pb_Ex.run rfl ?_)
          refine pb_Ex.iret rfl rfl (by omega) (by omega) ⟨rfl, hW.eqx (va_upup _ _ _ _), hf⟩
    · rw [if_pos c2]
      refine pb_Ex.run rfl ?_
      refine pb_Ex.mc rfl rfl rfl rfl hW hf rfl rfl (mo_throwing hW (2)) (by omega) (by omega) (by omega) (fun h1 hW hf => ?_)
      (try refine pb_Ex.run rfl ?_)
      refine pb_Ex.iret rfl rfl (by omega) (by omega) ⟨rfl, hW.eqx (va_upup _ _ _ _), hf⟩
  · rw [if_neg c, if_pos (show ¬ (0 ≤ z ∧ z < F 0 0) by omega)]
    refine pb_Ex.ifF rfl (by omega) (by first | decide | (simp only [pb_cmp]; omega) | simp [pb_cmp]) ?_
    (try refine pb_Ex.run rfl ?_)
    refine pb_Ex.mc rfl rfl rfl rfl hW hf rfl rfl (mo_throwing hW (1)) (by omega) (by omega) (by omega) (fun h1 hW hf => ?_)
    (try refine pb_Ex.run rfl ?_)
    refine pb_Ex.iret rfl rfl (by omega) (by omega) ⟨rfl, hW.eqx (va_upup _ _ _ _), hf⟩
theorem mo_hoursToLaunchByTides (hW : mo_W h o A x F) (ok : ya_ok t (F 0)) (z : Int) (hz : pb_rg z) : pb_Ctr G mX4_hoursToLaunchByTides 6 0 0 [pb_r o, pb_i z] h (mo_Q o A h (some (pb_i (qs_launch (F 0) z).2)) (va_up x 9 (qs_launch (F 0) z).1) F) := by
  have hf : mo_Fr o A h h := mo_Fr.rf
  refine pb_Ctr.of rfl rfl rfl tX4_hoursToLaunchByTides_ok rfl ?_
  (try refine pb_Ex.run rfl ?_)
  refine pb_Ex.mc rfl rfl rfl rfl hW hf rfl rfl (mo_hoursToLaunch hW ok z hz) (by omega) (by omega) (by omega) (fun h1 hW hf => ?_)
  (try refine pb_Ex.run rfl ?_)
  refine pb_Ex.iret rfl rfl (by omega) (by omega) (⟨rfl, hW, hf⟩)
theorem mo_before (hW : mo_W h o A x F) (ok : ya_ok t (F 0)) (p : Nat) (hp : (p : Int) < F 0 2) : pb_Ctr G mX4_before 4 0 0 [pb_r o, pb_i p] h (pb_P (some (pb_i (ya_bf (F 0) p))) h) := by
  have h0 := ok.num
  have op := ok.ord (k := p) (by omega) hp
  have cp := sp_coins_rg ok (k := p) (by omega) hp
  refine pb_Ctr.of rfl rfl rfl tX4_before_ok rfl ?_
  (try refine pb_Ex.run rfl ?_)
  have loop : ∀ (m k : Nat) (s z : Int) (l4 : Option pb_V), k + m = (F 0 2).toNat → z = k → s = ya_sum (ya_bfi (F 0) p) k → pb_Ex G mX4_before 4 0 0 (pb_P (some (pb_i (ya_bf (F 0) p))) h) 0 0 4 [some (pb_r o), some (pb_i p), some (pb_i s), some (pb_i z), l4] [] h := by
    intro m
    induction m with
    | zero =>
      intro k s z l4 hk hz hs
      subst hz
      refine pb_Ex.run rfl ?_
      refine pb_Ex.getf rfl rfl hW.1 rfl ?_
      (try refine pb_Ex.run rfl ?_)
      refine pb_Ex.iat (2) rfl hW.2.1 (by omega) (by omega) ?_
      (try refine pb_Ex.run rfl ?_)
      refine pb_Ex.icmpT rfl (by omega) (by omega) (by first | decide | (simp only [pb_cmp]; omega) | simp [pb_cmp]) ?_
      (try refine pb_Ex.run rfl ?_)
      have e : k = (F 0 2).toNat := by omega
      subst e hs
      refine pb_Ex.iret rfl rfl (by omega) (by omega) (⟨rfl, rfl⟩)
    | succ m ih =>
      intro k s z l4 hk hz hs
      subst hz
      have ok9 := ok.ord (k := k) (by omega) (by omega)
      have ck := sp_coins_rg ok (k := k) (by omega) (by omega)
      refine pb_Ex.run rfl ?_
      refine pb_Ex.getf rfl rfl hW.1 rfl ?_
      (try refine pb_Ex.run rfl ?_)
      refine pb_Ex.iat (2) rfl hW.2.1 (by omega) (by omega) ?_
      (try refine pb_Ex.run rfl ?_)
      refine pb_Ex.icmpF rfl (by omega) (by omega) (by first | decide | (simp only [pb_cmp]; omega) | simp [pb_cmp]) ?_
      (try refine pb_Ex.run rfl ?_)
      refine pb_Ex.getf rfl rfl hW.1 rfl ?_
      (try refine pb_Ex.run rfl ?_)
      refine pb_Ex.iat (190 + 4 * k) rfl hW.2.1 (by omega) (by omega) ?_
      (try refine pb_Ex.run rfl ?_)
      refine pb_Ex.getf rfl rfl hW.1 rfl ?_
      (try refine pb_Ex.run rfl ?_)
      refine pb_Ex.iat (190 + 4 * p) rfl hW.2.1 (by omega) (by omega) ?_
      (try refine pb_Ex.run rfl ?_)
      refine pb_Ex.icmp_ne rfl (by omega) (by omega) (fun c1 => ?_) (fun c1 => ?_)
      · refine pb_Ex.run rfl ?_
        refine pb_Ex.ifT rfl (by omega) (by first | decide | (simp only [pb_cmp]; omega) | simp [pb_cmp]) ?_
        (try refine pb_Ex.run rfl ?_)
        exact ih (k + 1) _ _ _ (by omega) (by omega) (by rw [ya_sum_s, hs]; unfold ya_bfi; rw [if_neg (fun q => c1 q.1)])
      · refine pb_Ex.run rfl ?_
        refine pb_Ex.ifF rfl (by omega) (by first | decide | (simp only [pb_cmp]; omega) | simp [pb_cmp]) ?_
        (try refine pb_Ex.run rfl ?_)
        refine pb_Ex.pV rfl rfl rfl rfl hW.1 rfl rfl (mo_coins hW ok k (by omega) (by omega)) (by omega) (by omega) (by omega) ?_
        (try refine pb_Ex.run rfl ?_)
        refine pb_Ex.pV rfl rfl rfl rfl hW.1 rfl rfl (mo_coins hW ok p (by omega) (by omega)) (by omega) (by omega) (by omega) ?_
        (try refine pb_Ex.run rfl ?_)
        refine pb_Ex.icmp_gt rfl (by omega) (by omega) (fun c2 => ?_) (fun c2 => ?_)
        · refine pb_Ex.run rfl ?_
          exact ih (k + 1) _ _ _ (by omega) (by omega) (by rw [ya_sum_s, hs]; unfold ya_bfi; rw [if_pos ⟨c1, Or.inl c2⟩])
        · refine pb_Ex.run rfl ?_
          refine pb_Ex.pV rfl rfl rfl rfl hW.1 rfl rfl (mo_coins hW ok k (by omega) (by omega)) (by omega) (by omega) (by omega) ?_
          (try refine pb_Ex.run rfl ?_)
          refine pb_Ex.pV rfl rfl rfl rfl hW.1 rfl rfl (mo_coins hW ok p (by omega) (by omega)) (by omega) (by omega) (by omega) ?_
          (try refine pb_Ex.run rfl ?_)
          refine pb_Ex.icmp_ne rfl (by omega) (by omega) (fun c3 => ?_) (fun c3 => ?_)
          · refine pb_Ex.run rfl ?_
            exact ih (k + 1) _ _ _ (by omega) (by omega) (by rw [ya_sum_s, hs]; unfold ya_bfi; rw [if_neg (by omega)])
          · refine pb_Ex.run rfl ?_
            refine pb_Ex.icmp_ge rfl (by omega) (by omega) (fun c4 => ?_) (fun c4 => ?_)
            · refine pb_Ex.run rfl ?_
              exact ih (k + 1) _ _ _ (by omega) (by omega) (by rw [ya_sum_s, hs]; unfold ya_bfi; rw [if_neg (by omega)])
            · refine pb_Ex.run rfl ?_
              exact ih (k + 1) _ _ _ (by omega) (by omega) (by rw [ya_sum_s, hs]; unfold ya_bfi; rw [if_pos ⟨c1, Or.inr ⟨c3, by omega⟩⟩])
  exact loop (F 0 2).toNat 0 0 0 _ (by omega) rfl rfl
theorem ya_bfi01 (f : Nat → Int) (p k : Nat) : ya_bfi f p k = 0 ∨ ya_bfi f p k = 1 := by unfold ya_bfi; split <;> omega
theorem ya_afl01 (f : Nat → Int) (n : Int) (k : Nat) : ya_afl f n k = 0 ∨ ya_afl f n k = 1 := by unfold ya_afl; split <;> omega
theorem ya_bdi_rg {t : Nat} {f : Nat → Int} (ok : ya_ok t f) {p : Nat} (hp : p < 6) (h9 : (p : Int) < f 2) : 0 ≤ ya_bdi f p ∧ ya_bdi f p ≤ 999 := by
  have := sp_coins_rg ok hp h9
  unfold ya_bdi
  split <;> omega
theorem mo_bestDelivery (hW : mo_W h o A x F) (ok : ya_ok t (F 0)) : pb_Ctr G mX4_bestDelivery 5 0 0 [pb_r o] h (mo_Q o A h (some (pb_i (qs_best (F 0)))) (va_up x 9 0) F) := by
  have h0 := ok.num
  have hf : mo_Fr o A h h := mo_Fr.rf
  refine pb_Ctr.of rfl rfl rfl tX4_bestDelivery_ok rfl ?_
  (try refine pb_Ex.run rfl ?_)
  refine pb_Ex.mput (x' := va_up x 9 0) rfl rfl hW hf rfl rfl trivial (fun h1 hW hf => ?_)
  (try refine pb_Ex.run rfl ?_)
  have outer : ∀ (m p : Nat) (s z : Int) (l3 l4 : Option pb_V), p + m = (F 0 2).toNat → z = p → s = ya_sum (ya_bdi (F 0)) p → pb_Ex G mX4_bestDelivery 5 0 0 (mo_Q o A h (some (pb_i (qs_best (F 0)))) (va_up x 9 0) F) 0 0 9 [some (pb_r o), some (pb_i s), some (pb_i z), l3, l4] [] h1 := by
    intro m
    induction m with
    | zero =>
      intro p s z l3 l4 hp hz hs
      subst hz
      refine pb_Ex.run rfl ?_
      refine pb_Ex.getf rfl rfl hW.1 rfl ?_
      (try refine pb_Ex.run rfl ?_)
      refine pb_Ex.iat (2) rfl hW.2.1 (by omega) (by omega) ?_
      (try refine pb_Ex.run rfl ?_)
      refine pb_Ex.icmpT rfl (by omega) (by omega) (by first | decide | (simp only [pb_cmp]; omega) | simp [pb_cmp]) ?_
      (try refine pb_Ex.run rfl ?_)
      have e : p = (F 0 2).toNat := by omega
      subst e hs
      refine pb_Ex.iret rfl rfl (by omega) (by omega) (⟨rfl, hW, hf⟩)
    | succ m ih =>
      intro p s z l3 l4 hp hz hs
      subst hz
      have op := ok.ord (k := p) (by omega) (by omega)
      have cp := sp_coins_rg ok (k := p) (by omega) (by omega)
      refine pb_Ex.run rfl ?_
      refine pb_Ex.getf rfl rfl hW.1 rfl ?_
      (try refine pb_Ex.run rfl ?_)
      refine pb_Ex.iat (2) rfl hW.2.1 (by omega) (by omega) ?_
      (try refine pb_Ex.run rfl ?_)
      refine pb_Ex.icmpF rfl (by omega) (by omega) (by first | decide | (simp only [pb_cmp]; omega) | simp [pb_cmp]) ?_
      (try refine pb_Ex.run rfl ?_)
      have inner : ∀ (m2 k : Nat) (s3 z4 : Int), k + m2 = (F 0 0).toNat → z4 = k → s3 = ya_sum (ya_afl (F 0) (F 0 (190 + 4 * p))) k → pb_Ex G mX4_bestDelivery 5 0 0 (mo_Q o A h (some (pb_i (qs_best (F 0)))) (va_up x 9 0) F) 0 0 24 [some (pb_r o), some (pb_i s), some (pb_i p), some (pb_i s3), some (pb_i z4)] [] h1 := by
        intro m2
        induction m2 with
        | zero =>
          intro k s3 z4 hk hz hs3
          subst hz
          refine pb_Ex.run rfl ?_
          refine pb_Ex.getf rfl rfl hW.1 rfl ?_
          (try refine pb_Ex.run rfl ?_)
          refine pb_Ex.iat (0) rfl hW.2.1 (by omega) (by omega) ?_
          (try refine pb_Ex.run rfl ?_)
          refine pb_Ex.icmpT rfl (by omega) (by omega) (by first | decide | (simp only [pb_cmp]; omega) | simp [pb_cmp]) ?_
          (try refine pb_Ex.run rfl ?_)
          have e : k = (F 0 0).toNat := by omega
          subst e
          have r1 := ya_sum01 (ya_bfi01 (F 0) p) (F 0 2).toNat
          have r2 := ya_sum01 (ya_afl01 (F 0) (F 0 (190 + 4 * p))) (F 0 0).toNat
          refine pb_Ex.pV rfl rfl rfl rfl hW.1 rfl rfl (mo_before hW ok p (by omega)) (by omega) (by omega) (by omega) ?_
          (try refine pb_Ex.run rfl ?_)
          have r3 : pb_rg (ya_bf (F 0) p) := by unfold ya_bf; omega
          refine pb_Ex.icmp_ge rfl (by omega) (by omega) (fun c1 => ?_) (fun c1 => ?_)
          · refine pb_Ex.run rfl ?_
            exact ih (p + 1) _ _ _ _ (by omega) (by omega) (by rw [ya_sum_s, hs]; unfold ya_bdi; rw [if_neg (by omega)])
          · refine pb_Ex.run rfl ?_
            refine pb_Ex.pV rfl rfl rfl rfl hW.1 rfl rfl (mo_coins hW ok p (by omega) (by omega)) (by omega) (by omega) (by omega) ?_
            (try refine pb_Ex.run rfl ?_)
            exact ih (p + 1) _ _ _ _ (by omega) (by omega) (by rw [ya_sum_s, hs]; unfold ya_bdi; rw [if_pos (by omega)])
        | succ m2 ih2 =>
          intro k s3 z4 hk hz hs3
          subst hz
          have hh := ok.hull (k := k) (by omega)
          refine pb_Ex.run rfl ?_
          refine pb_Ex.getf rfl rfl hW.1 rfl ?_
          (try refine pb_Ex.run rfl ?_)
          refine pb_Ex.iat (0) rfl hW.2.1 (by omega) (by omega) ?_
          (try refine pb_Ex.run rfl ?_)
          refine pb_Ex.icmpF rfl (by omega) (by omega) (by first | decide | (simp only [pb_cmp]; omega) | simp [pb_cmp]) ?_
          (try refine pb_Ex.run rfl ?_)
          refine pb_Ex.pV rfl rfl rfl rfl hW.1 rfl rfl (mo_state hW k (by omega)) (by omega) (by omega) (by omega) ?_
          (try refine pb_Ex.run rfl ?_)
          refine pb_Ex.icmp_ne rfl (by omega) (by omega) (fun c1 => ?_) (fun c1 => ?_)
          · refine pb_Ex.run rfl ?_
            exact ih2 (k + 1) _ _ (by omega) (by omega) (by rw [ya_sum_s, hs3]; unfold ya_afl; rw [if_neg (fun q => c1 q.1)])
          · refine pb_Ex.run rfl ?_
            refine pb_Ex.pV rfl rfl rfl rfl hW.1 rfl rfl (mo_frames hW k (by omega)) (by omega) (by omega) (by omega) ?_
            (try refine pb_Ex.run rfl ?_)
            refine pb_Ex.getf rfl rfl hW.1 rfl ?_
            (try refine pb_Ex.run rfl ?_)
            refine pb_Ex.iat (190 + 4 * p) rfl hW.2.1 (by omega) (by omega) ?_
            (try refine pb_Ex.run rfl ?_)
            refine pb_Ex.icmp_ne rfl (by omega) (by omega) (fun c2 => ?_) (fun c2 => ?_)
            · refine pb_Ex.run rfl ?_
              exact ih2 (k + 1) _ _ (by omega) (by omega) (by rw [ya_sum_s, hs3]; unfold ya_afl; rw [if_neg (fun q => c2 q.2)])
            · refine pb_Ex.run rfl ?_
              exact ih2 (k + 1) _ _ (by omega) (by omega) (by rw [ya_sum_s, hs3]; unfold ya_afl; rw [if_pos ⟨c1, c2⟩])
      exact inner (F 0 0).toNat 0 0 0 (by omega) rfl rfl
  exact outer (F 0 2).toNat 0 0 0 _ _ (by omega) rfl rfl
def ya_tot (f : Nat → Int) : Int := ya_sum (fun k => ya_wt f k) (f 0).toNat
def qs_mean (f : Nat → Int) : Int × UInt64 := if f 0 = 0 then (1, FP.dconst0) else (0, FP.ddiv (FP.i2d (pb_I (ya_tot f))) (FP.i2d (pb_I (f 0))))
theorem mo_meanWeight (hW : mo_W h o A x F) (ok : ya_ok t (F 0)) : pb_Ctr G mX4_meanWeight 5 0 0 [pb_r o] h (mo_Q o A h (some (pb_d (qs_mean (F 0)).2)) (va_up x 9 (qs_mean (F 0)).1) F) := by
  have h0 := ok.num
  unfold qs_mean
  have hf : mo_Fr o A h h := mo_Fr.rf
  refine pb_Ctr.of rfl rfl rfl tX4_meanWeight_ok rfl ?_
  (try refine pb_Ex.run rfl ?_)
  refine pb_Ex.mput (x' := va_up x 9 0) rfl rfl hW hf rfl rfl trivial (fun h1 hW hf => ?_)
  (try refine pb_Ex.run rfl ?_)
  refine pb_Ex.getf rfl rfl hW.1 rfl ?_
  (try refine pb_Ex.run rfl ?_)
  refine pb_Ex.iat (0) rfl hW.2.1 (by omega) (by omega) ?_
  (try refine pb_Ex.run rfl ?_)
  refine pb_Ex.if_ne rfl (by omega) (fun c => ?_) (fun c => ?_)
  · rw [if_neg c]
    refine pb_Ex.run rfl ?_
    have loop : ∀ (m k : Nat) (s z : Int), k + m = (F 0 0).toNat → z = k → s = ya_sum (fun k => ya_wt (F 0) k) k → pb_Ex G mX4_meanWeight 5 0 0 (mo_Q o A h (some (pb_d (FP.ddiv (FP.i2d (pb_I (ya_tot (F 0)))) (FP.i2d (pb_I (F 0 0)))))) (va_up x 9 0) F) 0 0 26 [some (pb_r o), some (pb_i s), some (pb_i z)] [] h1 := by
      intro m
      induction m with
      | zero =>
        intro k s z hk hz hs
        subst hz
        refine pb_Ex.run rfl ?_
        refine pb_Ex.getf rfl rfl hW.1 rfl ?_
        (try refine pb_Ex.run rfl ?_)
        refine pb_Ex.iat (0) rfl hW.2.1 (by omega) (by omega) ?_
        (try refine pb_Ex.run rfl ?_)
        refine pb_Ex.icmpT rfl (by omega) (by omega) (by first | decide | (simp only [pb_cmp]; omega) | simp [pb_cmp]) ?_
        (try refine pb_Ex.run rfl ?_)
        have e : k = (F 0 0).toNat := by omega
        subst e hs
        refine pb_Ex.i2d rfl ?_
        refine pb_Ex.run rfl ?_
        refine pb_Ex.getf rfl rfl hW.1 rfl ?_
        (try refine pb_Ex.run rfl ?_)
        refine pb_Ex.iat (0) rfl hW.2.1 (by omega) (by omega) ?_
        (try refine pb_Ex.run rfl ?_)
        refine pb_Ex.i2d rfl ?_
        refine pb_Ex.ddiv rfl (pb_mean (by omega)) ?_
        exact pb_Ex.dret rfl rfl (by omega) (by omega) ⟨rfl, hW, hf⟩
      | succ m ih =>
        intro k s z hk hz hs
        subst hz
        refine pb_Ex.run rfl ?_
        refine pb_Ex.getf rfl rfl hW.1 rfl ?_
        (try refine pb_Ex.run rfl ?_)
        refine pb_Ex.iat (0) rfl hW.2.1 (by omega) (by omega) ?_
        (try refine pb_Ex.run rfl ?_)
        refine pb_Ex.icmpF rfl (by omega) (by omega) (by first | decide | (simp only [pb_cmp]; omega) | simp [pb_cmp]) ?_
        (try refine pb_Ex.run rfl ?_)
        refine pb_Ex.pV rfl rfl rfl rfl hW.1 rfl rfl (mo_weight hW k (by omega) (ok.fr (by omega))) (by omega) (by omega) (by omega) ?_
        (try refine pb_Ex.run rfl ?_)
        exact ih (k + 1) _ _ (by omega) (by omega) (by rw [ya_sum_s, hs])
    exact loop (F 0 0).toNat 0 0 0 (by omega) rfl rfl
  · rw [if_pos c]
    refine pb_Ex.run rfl ?_
    refine pb_Ex.mc rfl rfl rfl rfl hW hf rfl rfl (mo_throwing hW 1) (by omega) (by omega) (by omega) (fun h1 hW hf => ?_)
    refine pb_Ex.run rfl ?_
    refine pb_Ex.dconst0 rfl ?_
    exact pb_Ex.dret rfl rfl (by omega) (by omega) ⟨rfl, hW.eqx (va_upup _ _ _ _), hf⟩
end MODEL10
