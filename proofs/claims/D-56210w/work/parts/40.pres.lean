set_option maxRecDepth 100000
/-! WHAT IS ASKED OF THE NUMBERS holds behind each operation -/
section PRES
variable {t : Nat} {f : Nat → Int}
theorem ya_ok.mono {t' : Nat} (ok : ya_ok t f) (h : t ≤ t') (h2 : t' ≤ 200000) : ya_ok t' f := by
  have hn := ok.num
  exact ya_ok.mk (by omega) (fun i hi => ok.tid hi) (fun i hi => ok.sli hi) (fun k hk => ok.hok hk) (fun k hk h9 => ok.ord hk h9) (fun i hi j hj hij h9 => ok.asc hj hij h9)
/-- one hull's numbers change -/
theorem ya_ok.one {g : Nat → Int} (ok : ya_ok t f) {k : Nat} (hk : k < 6) (e : ∀ i, i < 21 + 28 * k ∨ 49 + 28 * k ≤ i → g i = f i) (hh : ya_hok g k) : ya_ok t g := by
  have hn := ok.num
  refine ok.hulls (Nat.le_refl t) hn.2.2.2.2.2.2.2.2.2.2 ?_ ?_ (fun i h1 h2 => e i (by omega)) (fun q hq => ?_)
  · rw [e 0 (by omega)]; omega
  · rw [e 1 (by omega)]; omega
  · by_cases c : q = k
    · subst c; exact hh
    · exact (ok.hok hq).eq (by rw [e 0 (by omega)]; omega) (by rw [e 1 (by omega)]; omega) (fun i h1 h2 => e i (by omega))
theorem sp_hull_ok (ok : ya_ok t f) : ya_ok t (sp_hull f).2.2 := by
  have hn := ok.num
  unfold sp_hull
  split
  · exact ok
  · dsimp only
    have e : ∀ i, i ≠ 0 → va_up f 0 (f 0 + 1) i = f i := fun i hi => va_upN _ _ hi
    refine ok.hulls (Nat.le_refl t) hn.2.2.2.2.2.2.2.2.2.2 ?_ ?_ (fun i h1 h2 => e i (by omega)) (fun q hq => (ok.hok hq).eq ?_ ?_ (fun i h1 h2 => e i (by omega)))
    · rw [va_upS]; omega
    · rw [e 1 (by omega)]; omega
    · rw [va_upS]; omega
    · rw [e 1 (by omega)]; omega
/-- the frames below n are turned round -/
theorem sp_miF_in (f : Nat → Int) (k : Nat) : ∀ (n j : Nat), j < n → sp_miF f k n (25 + 28 * k + 2 * j) = f (26 + 28 * k + 2 * j) ∧ sp_miF f k n (26 + 28 * k + 2 * j) = f (25 + 28 * k + 2 * j)
  | n + 1, j, h => by
    have e1 : 25 + 28 * k + 2 * n + 1 = 26 + 28 * k + 2 * n := by omega
    have e0 : 25 + 28 * k + 2 * n + 0 = 25 + 28 * k + 2 * n := rfl
    rw [sp_miF, e0, e1]
    by_cases c : j = n
    · subst c
      refine ⟨?_, ?_⟩
      · rw [va_upN _ _ (by omega), va_upS, sp_miF_out f k j _ (by omega)]
      · rw [va_upS, sp_miF_out f k j _ (by omega)]
    · have := sp_miF_in f k n j (by omega)
      rw [va_upN _ _ (by omega), va_upN _ _ (by omega), va_upN _ _ (by omega), va_upN _ _ (by omega)]
      exact this
theorem sp_mirror_ok (ok : ya_ok t f) (z : Int) : ya_ok t (sp_mirror f z).2.2 := by
  have hn := ok.num
  unfold sp_mirror
  split
  · exact ok
  · next c1 =>
    obtain ⟨k, rfl⟩ := Int.eq_ofNat_of_zero_le (show 0 ≤ z by omega)
    rw [Int.toNat_natCast]
    have hk : k < 6 := by omega
    have h2 := ok.nn hk
    split
    · exact ok
    · have h1 := ok.hull hk
      refine ok.one hk (fun i hi => sp_miF_out f k _ i (by omega)) ⟨?_, fun j hj => ?_, fun j hj => ?_, fun h0 => ?_⟩
      · show 0 ≤ sp_miF f k (ya_n f k) _ ∧ sp_miF f k (ya_n f k) _ ≤ 3 ∧ 0 ≤ sp_miF f k (ya_n f k) _ ∧ sp_miF f k (ya_n f k) _ ≤ 8 ∧ 0 ≤ sp_miF f k (ya_n f k) _ ∧ sp_miF f k (ya_n f k) _ ≤ 999 ∧ 0 ≤ sp_miF f k (ya_n f k) _ ∧ sp_miF f k (ya_n f k) _ ≤ 63 * sp_miF f k (ya_n f k) 1
        rw [sp_miF_out f k _ _ (by omega), sp_miF_out f k _ _ (by omega), sp_miF_out f k _ _ (by omega), sp_miF_out f k _ _ (by omega), sp_miF_out f k _ _ (by omega)]
        exact h1
      · show 0 ≤ sp_miF f k (ya_n f k) _ ∧ sp_miF f k (ya_n f k) _ ≤ 30
        by_cases c : j < 2 * ya_n f k
        · have h3 := sp_miF_in f k (ya_n f k) (j / 2) (by omega)
          by_cases c2 : j % 2 = 0
          · have e : 25 + 28 * k + j = 25 + 28 * k + 2 * (j / 2) := by omega
            have e2 : 26 + 28 * k + 2 * (j / 2) = 25 + 28 * k + (j + 1) := by omega
            rw [e, h3.1, e2]
            exact ok.wid hk (by omega)
          · have e : 25 + 28 * k + j = 26 + 28 * k + 2 * (j / 2) := by omega
            have e2 : 25 + 28 * k + 2 * (j / 2) = 25 + 28 * k + (j - 1) := by omega
            rw [e, h3.2, e2]
            exact ok.wid hk (by omega)
        · rw [sp_miF_out f k _ _ (by omega)]
          exact ok.wid hk hj
      · show 0 ≤ sp_miF f k (ya_n f k) _ ∧ sp_miF f k (ya_n f k) _ ≤ 9
        rw [sp_miF_out f k _ _ (by omega)]
        exact ok.cau hk hj
      · have h0 : sp_miF f k (ya_n f k) 0 ≤ (k : Int) := h0
        rw [sp_miF_out f k _ _ (by omega)] at h0
        omega
/-- one number of a hull changes, and stays in its bounds -/
theorem ya_ok.num1 (ok : ya_ok t f) {k : Nat} (hk : k < 6) (hk0 : (k : Int) < f 0) {i : Nat} {v : Int} (hi : 21 + 28 * k ≤ i ∧ i < 49 + 28 * k) (h1 : i = 21 + 28 * k → 0 ≤ v ∧ v ≤ 3) (h2 : i = 22 + 28 * k → 0 ≤ v ∧ v ≤ 8) (h3 : i = 23 + 28 * k → 0 ≤ v ∧ v ≤ 999) (h4 : i = 24 + 28 * k → 0 ≤ v ∧ v ≤ 63 * f 1) (h5 : 25 + 28 * k ≤ i → i < 41 + 28 * k → 0 ≤ v ∧ v ≤ 30) (h6 : 41 + 28 * k ≤ i → 0 ≤ v ∧ v ≤ 9) : ya_ok t (va_up f i v) := by
  have hh := ok.hull hk
  refine ok.one hk (fun j hj => va_upN _ _ (by omega)) ⟨?_, fun j hj => ?_, fun j hj => ?_, fun h0 => ?_⟩
  · simp only [va_up]; repeat' split
    all_goals omega
  · have := ok.wid hk hj
    simp only [va_up]; split
    all_goals omega
  · have := ok.cau hk hj
    simp only [va_up]; split
    all_goals omega
  · rw [va_upN _ _ (by omega)] at h0
    omega
theorem sp_frame_ok (ok : ya_ok t f) (z l r : Int) : ya_ok t (sp_frame f z l r).2.2 := by
  have hn := ok.num
  unfold sp_frame
  split
  · exact ok
  · next c1 =>
    obtain ⟨k, rfl⟩ := Int.eq_ofNat_of_zero_le (show 0 ≤ z by omega)
    rw [Int.toNat_natCast]
    have hk : k < 6 := by omega
    split
    · exact ok
    · next c2 =>
      split
      · exact ok
      · next c3 =>
        dsimp only
        have h1 := ok.hull hk
        have h2 := ok.nn hk
        have n8 : ya_n f k < 8 := by omega
        have a1 := ok.num1 (k := k) (i := 25 + 28 * k + 2 * ya_n f k) (v := l) hk (by omega) (by omega) (by omega) (by omega) (by omega) (by omega) (by omega) (by omega)
        have b1 : va_up f (25 + 28 * k + 2 * ya_n f k) l 0 = f 0 := va_upN _ _ (by omega)
        have a2 := a1.num1 (k := k) (i := 26 + 28 * k + 2 * ya_n f k) (v := r) hk (by omega) (by omega) (by omega) (by omega) (by omega) (by omega) (by omega) (by omega)
        have b2 := (va_upN (va_up f (25 + 28 * k + 2 * ya_n f k) l) (k := 26 + 28 * k + 2 * ya_n f k) (j := 0) r (by omega)).trans b1
        have a3 := a2.num1 (k := k) (i := 22 + 28 * k) (v := f (22 + 28 * k) + 1) hk (by omega) (by omega) (by omega) (by omega) (by omega) (by omega) (by omega) (by omega)
        have b3 := (va_upN (va_up (va_up f (25 + 28 * k + 2 * ya_n f k) l) (26 + 28 * k + 2 * ya_n f k) r) (k := 22 + 28 * k) (j := 0) (f (22 + 28 * k) + 1) (by omega)).trans b2
        split
        · exact a3.num1 (k := k) (i := 40 + 28 * k + ya_n f k) (v := 9) hk (by omega) (by omega) (by omega) (by omega) (by omega) (by omega) (by omega) (by omega)
        · exact a3
theorem sp_cargo_ok (ok : ya_ok t f) (z c : Int) : ya_ok t (sp_cargo f z c).2.2 := by
  have hn := ok.num
  unfold sp_cargo
  split
  · exact ok
  · next c1 =>
    obtain ⟨k, rfl⟩ := Int.eq_ofNat_of_zero_le (show 0 ≤ z by omega)
    rw [Int.toNat_natCast]
    split
    · exact ok
    · split
      · exact ok
      · exact ok.num1 (k := k) (by omega) (by omega) (by omega) (by omega) (by omega) (by omega) (by omega) (by omega) (by omega)
theorem sp_launch_ok (ok : ya_ok t f) (z : Int) : ya_ok t (sp_launch f z).2.2.1 := by
  have hn := ok.num
  unfold sp_launch
  split
  · exact ok
  · next c1 =>
    obtain ⟨k, rfl⟩ := Int.eq_ofNat_of_zero_le (show 0 ≤ z by omega)
    rw [Int.toNat_natCast]
    split
    · exact ok
    · split
      · exact ok
      · exact ok.num1 (k := k) (by omega) (by omega) (by omega) (by omega) (by omega) (by omega) (by omega) (by omega) (by omega)
theorem sp_caulk_ok (ok : ya_ok t f) (z y : Int) : ya_ok t (sp_caulk f z y).2.2 := by
  have hn := ok.num
  unfold sp_caulk
  split
  · exact ok
  · next c1 =>
    obtain ⟨k, rfl⟩ := Int.eq_ofNat_of_zero_le (show 0 ≤ z by omega)
    rw [Int.toNat_natCast] at c1 ⊢
    have hse := (ok.fr (k := k) (by omega)).se
    split
    · exact ok
    · exact ok.num1 (k := k) (by omega) (by omega) (by omega) (by omega) (by omega) (by omega) (by omega) (by omega) (by omega)
theorem sp_pump_ok (ok : ya_ok t f) (z v : Int) : ya_ok t (sp_pump f z v).2.2 := by
  have hn := ok.num
  unfold sp_pump
  split
  · exact ok
  · next c1 =>
    obtain ⟨k, rfl⟩ := Int.eq_ofNat_of_zero_le (show 0 ≤ z by omega)
    rw [Int.toNat_natCast]
    have hh := ok.hull (k := k) (by omega)
    split
    · exact ok
    · split
      · exact ok
      · exact ok.num1 (k := k) (by omega) (by omega) (by omega) (by omega) (by omega) (by omega) (by omega) (by omega) (by omega)
theorem ya_ok.low {g : Nat → Int} (ok : ya_ok t f) (e : ∀ i, i < 5 ∨ 21 ≤ i → g i = f i) (h2 : ∀ i : Nat, i < 12 → 0 ≤ g (5 + i) ∧ g (5 + i) ≤ 50) (h3 : ∀ i : Nat, i < 4 → 0 ≤ g (17 + i) ∧ g (17 + i) ≤ 8) : ya_ok t g := by
  have hn := ok.num
  have e0 := e 0 (by omega)
  have e1 := e 1 (by omega)
  have e2 := e 2 (by omega)
  have e3 := e 3 (by omega)
  have e4 := e 4 (by omega)
  refine ya_ok.mk (by omega) h2 h3 (fun q hq => (ok.hok hq).eq (by omega) (by omega) (fun i h1 h2 => e i (by omega))) (fun k hk h9 => ?_) (fun i hi j hj hij h9 => ?_)
  · rw [e2] at h9
    rw [e3, e _ (by omega), e _ (by omega), e _ (by omega), e _ (by omega)]
    exact ok.ord hk h9
  · rw [e2] at h9
    rw [e _ (by omega), e _ (by omega)]
    exact ok.asc hj hij h9
theorem sp_tide_ok (ok : ya_ok t f) (z v : Int) : ya_ok t (sp_tide f z v).2.2 := by
  unfold sp_tide
  split
  · exact ok
  · next c1 =>
    refine ok.low (fun i hi => va_upN _ _ (by omega)) (fun i hi => ?_) (fun i hi => ?_)
    · have := ok.tid hi
      simp only [va_up]; split
      all_goals omega
    · have := ok.sli hi
      simp only [va_up]; split
      all_goals omega
theorem sp_slip_ok (ok : ya_ok t f) (z v : Int) : ya_ok t (sp_slip f z v).2.2 := by
  unfold sp_slip
  split
  · exact ok
  · next c1 =>
    refine ok.low (fun i hi => va_upN _ _ (by omega)) (fun i hi => ?_) (fun i hi => ?_)
    · have := ok.tid hi
      simp only [va_up]; split
      all_goals omega
    · have := ok.sli hi
      simp only [va_up]; split
      all_goals omega
theorem sp_pass_ok (ok : ya_ok t f) (ht : t + 99 ≤ 200000) (v : Int) : ya_ok (t + 99) (sp_pass f v).2.2 := by
  unfold sp_pass
  split
  · exact ok.mono (by omega) ht
  · exact (sp_hrs_ok ok v.toNat (by omega)).mono (by omega) ht
theorem sp_order_ok (ok : ya_ok t f) (ht : t + 99 ≤ 200000) (a b c : Int) : ya_ok (t + 99) (sp_order f a b c).2.2 := by
  have hn := ok.num
  unfold sp_order
  split
  · exact ok.mono (by omega) ht
  · next c1 =>
    split
    · exact ok.mono (by omega) ht
    · next c2 =>
      obtain ⟨p, hp⟩ := Int.eq_ofNat_of_zero_le (show 0 ≤ f 2 by omega)
      have hp2 : (f 2).toNat = p := by omega
      rw [hp2]
      dsimp only
      have key : ∀ g : Nat → Int, (∀ i, (i < 2 ∨ 4 ≤ i) → (i < 189 + 4 * p ∨ 193 + 4 * p ≤ i) → g i = f i) → g 2 = f 2 + 1 → g 3 = f 3 + 1 → g (189 + 4 * p) = f 3 → g (190 + 4 * p) = a → g (191 + 4 * p) = b → g (192 + 4 * p) = c → ya_ok (t + 99) g := by
        intro g e g2 g3 q0 q1 q2 q3
        refine ya_ok.mk ?_ (fun i hi => ?_) (fun i hi => ?_) (fun k hk => ?_) (fun k hk h9 => ?_) (fun i hi j hj hij h9 => ?_)
        · rw [g2, g3, e 0 (by omega) (by omega), e 1 (by omega) (by omega), e 4 (by omega) (by omega)]
          omega
        · rw [e _ (by omega) (by omega)]; exact ok.tid hi
        · rw [e _ (by omega) (by omega)]; exact ok.sli hi
        · exact (ok.hok hk).eq (by rw [e 0 (by omega) (by omega)]; omega) (by rw [e 1 (by omega) (by omega)]; omega) (fun i h1 h2 => e i (by omega) (by omega))
        · rw [g2] at h9
          by_cases c3 : k = p
          · subst c3
            rw [g3, q0, q1, q2, q3]
            omega
          · have h8 := ok.ord hk (by omega)
            rw [g3, e _ (by omega) (by omega), e _ (by omega) (by omega), e _ (by omega) (by omega), e _ (by omega) (by omega)]
            omega
        · rw [g2] at h9
          have hi9 := ok.ord hi (by omega)
          rw [e (189 + 4 * i) (by omega) (by omega)]
          by_cases c3 : j = p
          · subst c3
            rw [q0]
            omega
          · rw [e (189 + 4 * j) (by omega) (by omega)]
            exact ok.asc hj hij (by omega)
      refine key _ (fun i h1 h2 => ?_) ?_ (va_upS _ _ _) ?_ ?_ ?_ ?_
      · rw [va_upN _ _ (by omega), va_upN _ _ (by omega), va_upN _ _ (by omega), va_upN _ _ (by omega), va_upN _ _ (by omega), va_upN _ _ (by omega)]
      · rw [va_upN _ _ (by omega), va_upS]
      · rw [va_upN _ _ (by omega), va_upN _ _ (by omega), va_upN _ _ (by omega), va_upN _ _ (by omega), va_upN _ _ (by omega), va_upS]
      · rw [va_upN _ _ (by omega), va_upN _ _ (by omega), va_upN _ _ (by omega), va_upN _ _ (by omega), va_upS]
      · rw [va_upN _ _ (by omega), va_upN _ _ (by omega), va_upN _ _ (by omega), va_upS]
      · rw [va_upN _ _ (by omega), va_upN _ _ (by omega), va_upS]
theorem sp_deliver_ok (ok : ya_ok t f) (ht : t + 99 ≤ 200000) (id z : Int) : ya_ok (t + 99) (sp_deliver f id z).2.2 := by
  have hn := ok.num
  have hfd := sp_find_rg ok id
  unfold sp_deliver
  split
  · exact ok.mono (by omega) ht
  · next c0 =>
    split
    · exact ok.mono (by omega) ht
    · next c1 =>
      obtain ⟨k, rfl⟩ := Int.eq_ofNat_of_zero_le (show 0 ≤ z by omega)
      rw [Int.toNat_natCast]
      split
      · exact ok.mono (by omega) ht
      · obtain ⟨p, hp⟩ := Int.eq_ofNat_of_zero_le (show 0 ≤ sp_find f id by omega)
        have hp2 : (sp_find f id).toNat = p := by omega
        rw [hp2]
        have hco := sp_coins_rg ok (k := p) (by omega) (by omega)
        have e : ∀ i, i ≠ 2 → i ≠ 4 → i ≠ 21 + 28 * k → i < 189 → va_up (sp_mv (va_up (va_up f 4 (f 4 + sp_coins f p)) (21 + 28 * k) 2) p) 2 (f 2 - 1) i = f i := by
          intro i h1 h2 h3 h4
          rw [va_upN _ _ h1]
          unfold sp_mv
          rw [if_neg (by omega), if_neg (by omega), va_upN _ _ h3, va_upN _ _ h2]
        have e21 : va_up (sp_mv (va_up (va_up f 4 (f 4 + sp_coins f p)) (21 + 28 * k) 2) p) 2 (f 2 - 1) (21 + 28 * k) = 2 := by
          rw [va_upN _ _ (by omega)]
          unfold sp_mv
          rw [if_neg (by omega), if_neg (by omega), va_upS]
        have e4 : va_up (sp_mv (va_up (va_up f 4 (f 4 + sp_coins f p)) (21 + 28 * k) 2) p) 2 (f 2 - 1) 4 = f 4 + sp_coins f p := by
          rw [va_upN _ _ (by omega)]
          unfold sp_mv
          rw [if_neg (by omega), if_neg (by omega), va_upN _ _ (by omega), va_upS]
        have e2 : va_up (sp_mv (va_up (va_up f 4 (f 4 + sp_coins f p)) (21 + 28 * k) 2) p) 2 (f 2 - 1) 2 = f 2 - 1 := va_upS _ _ _
        have eo : ∀ j q : Nat, q < 4 → ((j : Int) < f 2 - 1) → va_up (sp_mv (va_up (va_up f 4 (f 4 + sp_coins f p)) (21 + 28 * k) 2) p) 2 (f 2 - 1) (189 + 4 * j + q) = f (189 + 4 * (if j < p then j else j + 1) + q) := by
          intro j q hq hj
          rw [va_upN _ _ (by omega)]
          unfold sp_mv
          by_cases c3 : j < p
          · rw [if_neg (by omega), if_neg (by omega), if_pos c3, va_upN _ _ (by omega), va_upN _ _ (by omega)]
          · rw [if_pos (by omega), if_neg c3, va_upN _ _ (by omega), va_upN _ _ (by omega)]
            congr 1
            omega
        dsimp only
        refine ya_ok.mk ?_ (fun i hi => ?_) (fun i hi => ?_) (fun q hq => ?_) (fun q hq h9 => ?_) (fun i hi j hj hij h9 => ?_)
        · rw [e2, e4, e 0 (by omega) (by omega) (by omega) (by omega), e 1 (by omega) (by omega) (by omega) (by omega), e 3 (by omega) (by omega) (by omega) (by omega)]
          omega
        · rw [e _ (by omega) (by omega) (by omega) (by omega)]; exact ok.tid hi
        · rw [e _ (by omega) (by omega) (by omega) (by omega)]; exact ok.sli hi
        · by_cases c3 : q = k
          · subst c3
            have hh := ok.hull hq
            refine ⟨?_, fun j hj => ?_, fun j hj => ?_, fun h0 => ?_⟩
            · rw [e21, e _ (by omega) (by omega) (by omega) (by omega), e _ (by omega) (by omega) (by omega) (by omega), e _ (by omega) (by omega) (by omega) (by omega), e _ (by omega) (by omega) (by omega) (by omega)]
              omega
            · rw [e _ (by omega) (by omega) (by omega) (by omega)]; exact ok.wid hq hj
            · rw [e _ (by omega) (by omega) (by omega) (by omega)]; exact ok.cau hq hj
            · rw [e 0 (by omega) (by omega) (by omega) (by omega)] at h0; omega
          · exact (ok.hok hq).eq (by rw [e 0 (by omega) (by omega) (by omega) (by omega)]; omega) (by rw [e 1 (by omega) (by omega) (by omega) (by omega)]; omega) (fun i h1 h2 => e i (by omega) (by omega) (by omega) (by omega))
        · rw [e2] at h9
          have a0 := eo q 0 (by omega) h9
          have a1 := eo q 1 (by omega) h9
          have a2 := eo q 2 (by omega) h9
          have a3 := eo q 3 (by omega) h9
          rw [show 190 + 4 * q = 189 + 4 * q + 1 by omega, show 191 + 4 * q = 189 + 4 * q + 2 by omega, show 192 + 4 * q = 189 + 4 * q + 3 by omega, a1, a2, a3]
          rw [show 189 + 4 * q + 0 = 189 + 4 * q from rfl] at a0
          rw [a0, e 3 (by omega) (by omega) (by omega) (by omega)]
          have h8 := ok.ord (k := if q < p then q else q + 1) (by split <;> omega) (by split <;> omega)
          rw [show 190 + 4 * (if q < p then q else q + 1) = 189 + 4 * (if q < p then q else q + 1) + 1 by omega, show 191 + 4 * (if q < p then q else q + 1) = 189 + 4 * (if q < p then q else q + 1) + 2 by omega, show 192 + 4 * (if q < p then q else q + 1) = 189 + 4 * (if q < p then q else q + 1) + 3 by omega] at h8
          exact h8
        · rw [e2] at h9
          have a0 := eo i 0 (by omega) (by omega)
          have b0 := eo j 0 (by omega) h9
          rw [show 189 + 4 * i + 0 = 189 + 4 * i from rfl] at a0
          rw [show 189 + 4 * j + 0 = 189 + 4 * j from rfl] at b0
          rw [a0, b0]
          exact ok.asc (by split <;> omega) (by split <;> split <;> omega) (by split <;> omega)
end PRES
