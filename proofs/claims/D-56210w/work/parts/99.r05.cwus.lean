set_option maxRecDepth 100000
/-! THE USES are the codes with most hulls -/
theorem us_l_sum (f : Nat → Int) (rec : Nat → Int → Int) (k m : Nat) (l : Int) : ∀ (d i : Nat) (acc : Int), us_l f rec k m l d i acc = acc + ya_sum (fun j => if 0 < l ∧ m / 2 ^ (i + j) % 2 = 0 ∧ (f (21 + 28 * k) = 0 ∧ 2 ≤ f (22 + 28 * k) ∧ f (22 + 28 * k) ≤ f (17 + (i + j))) then rec (m ||| 2 ^ (i + j)) (l - 1) else 0) d
  | 0, _, acc => by show acc = acc + 0; omega
  | d + 1, i, acc => by
    have e : us_l f rec k m l (d + 1) i acc = if 0 < l ∧ m / 2 ^ i % 2 = 0 ∧ (f (21 + 28 * k) = 0 ∧ 2 ≤ f (22 + 28 * k) ∧ f (22 + 28 * k) ≤ f (17 + i)) then us_l f rec k m l d (i + 1) (acc + rec (m ||| 2 ^ i) (l - 1)) else us_l f rec k m l d (i + 1) acc := rfl
    have e9 := ya_sum_hs (fun p => if 0 < l ∧ m / 2 ^ p % 2 = 0 ∧ (f (21 + 28 * k) = 0 ∧ 2 ≤ f (22 + 28 * k) ∧ f (22 + 28 * k) ≤ f (17 + p)) then rec (m ||| 2 ^ p) (l - 1) else 0) i d
    rw [e, e9]
    by_cases c : 0 < l ∧ m / 2 ^ i % 2 = 0 ∧ (f (21 + 28 * k) = 0 ∧ 2 ≤ f (22 + 28 * k) ∧ f (22 + 28 * k) ≤ f (17 + i))
    · rw [if_pos c, if_pos c, us_l_sum f rec k m l d (i + 1)]; omega
    · rw [if_neg c, if_neg c, us_l_sum f rec k m l d (i + 1)]; omega
theorem cw_us {t : Nat} {f : Nat → Int} (ok : ya_ok t f) : ∀ (d k m l : Nat), k + d = (f 0).toNat → us_F f d k m (l : Int) = cw_W f 4 0 (fun x => decide (k ≤ x)) (fun i => decide (m / 2 ^ i % 2 = 0)) l
  | 0, k, m, l, h => by
    have hn := ok.num
    rw [cw_none f _ 4 0 _ l (fun j x hx => decide_eq_false (by have := hx.1; omega))]
    show (if (l : Int) = 0 then (1 : Int) else 0) = _
    by_cases c : l = 0
    · rw [if_pos c, if_pos (by omega)]
    · rw [if_neg c, if_neg (by omega)]
  | d + 1, k, m, l, h => by
    have hn := ok.num
    have e : us_F f (d + 1) k m (l : Int) = us_l f (us_F f d (k + 1)) k m l 4 0 (us_F f d (k + 1) m l) := rfl
    have eK : cw_off (fun x => decide (k ≤ x)) k = fun x => decide (k + 1 ≤ x) := by
      funext x
      unfold cw_off
      by_cases c : x = k
      · rw [if_pos c]; exact (decide_eq_false (by omega)).symm
      · rw [if_neg c]; exact decide_eq_decide.mpr (by omega)
    rw [e, us_l_sum, cw_col f (k := k) (by omega) 4 0 _ _ l (decide_eq_true (Nat.le_refl _)), eK, cw_us ok d (k + 1) m l (by omega)]
    congr 1
    by_cases c : 0 < l
    · rw [if_pos c]
      refine ya_sum_eq 4 (fun j _ => ?_)
      rw [Nat.zero_add]
      by_cases c2 : m / 2 ^ j % 2 = 0 ∧ (f (21 + 28 * k) = 0 ∧ 2 ≤ f (22 + 28 * k) ∧ f (22 + 28 * k) ≤ f (17 + j))
      · rw [if_pos ⟨by omega, c2.1, c2.2⟩, if_pos ⟨decide_eq_true c2.1, by omega, c2.2⟩]
        have el : (l : Int) - 1 = ((l - 1 : Nat) : Int) := by omega
        rw [el, cw_us ok d (k + 1) (m ||| 2 ^ j) (l - 1) (by omega)]
        congr 1
        funext i
        unfold cw_off
        by_cases c3 : i = j
        · rw [if_pos c3]; exact decide_eq_false (fun z => ((cw_bit m i j).mp z).2 c3)
        · rw [if_neg c3]; exact decide_eq_decide.mpr ⟨fun z => ((cw_bit m i j).mp z).1, fun z => (cw_bit m i j).mpr ⟨z, c3⟩⟩
      · rw [if_neg (fun z => c2 ⟨z.2.1, z.2.2⟩), if_neg (fun z => c2 ⟨of_decide_eq_true z.1, z.2.2⟩)]
    · rw [if_neg c]
      refine ya_sum_z 4 (fun j _ => if_neg (fun z => c (by omega)))
theorem ya_us_s (f : Nat → Int) (m i c b : Nat) (n : Int) : ya_us f (m + 1) i c b n = if c % 7 = 6 then ya_us f m (i + 1) (c / 7) b n else if ya_okh f i (c % 7) ∧ b / 2 ^ (c % 7) % 2 = 0 then ya_us f m (i + 1) (c / 7) (b ||| 2 ^ (c % 7)) (n + 1) else -1 := rfl
theorem cw_cnt (f : Nat → Int) (M : Nat) : ∀ (m i b n : Nat), ya_sum (fun c => if ya_us f m i c b (n : Int) = (M : Int) then 1 else 0) (7 ^ m) = if n ≤ M then cw_W f m i (fun x => decide (b / 2 ^ x % 2 = 0)) (fun _ => true) (M - n) else 0
  | 0, i, b, n => by
    show 0 + (if (n : Int) = (M : Int) then (1 : Int) else 0) = if n ≤ M then (if M - n = 0 then 1 else 0) else 0
    by_cases c : n = M
    · rw [if_pos (by omega), if_pos (by omega), if_pos (by omega)]; rfl
    · rw [if_neg (by omega)]
      by_cases c2 : n ≤ M
      · rw [if_pos c2, if_neg (by omega)]; rfl
      · rw [if_neg c2]; rfl
  | m + 1, i, b, n => by
    have e7 : 7 ^ (m + 1) = 7 * 7 ^ m := by rw [Nat.pow_succ, Nat.mul_comm]
    rw [e7, ya_sum_mul, ya_sum_swap, ya_sum_s]
    have h6 : ∀ c, (7 * c + 6) % 7 = 6 ∧ (7 * c + 6) / 7 = c := fun c => by omega
    have hd : ∀ d, d < 6 → ∀ c, (7 * c + d) % 7 = d ∧ (7 * c + d) / 7 = c := fun d hd c => by omega
    have e6 : ya_sum (fun c => if ya_us f (m + 1) i (7 * c + 6) b (n : Int) = (M : Int) then 1 else 0) (7 ^ m) = if n ≤ M then cw_W f m (i + 1) (fun x => decide (b / 2 ^ x % 2 = 0)) (fun _ => true) (M - n) else 0 := by
      rw [← cw_cnt f M m (i + 1) b n]
      refine ya_sum_eq _ (fun c _ => ?_)
      rw [ya_us_s, if_pos (h6 c).1, (h6 c).2]
    rw [e6]
    have ed : ∀ d, d < 6 → ya_sum (fun c => if ya_us f (m + 1) i (7 * c + d) b (n : Int) = (M : Int) then 1 else 0) (7 ^ m) = if ya_okh f i d ∧ b / 2 ^ d % 2 = 0 then (if n + 1 ≤ M then cw_W f m (i + 1) (fun x => decide ((b ||| 2 ^ d) / 2 ^ x % 2 = 0)) (fun _ => true) (M - (n + 1)) else 0) else 0 := fun d hd6 => by
      by_cases c9 : ya_okh f i d ∧ b / 2 ^ d % 2 = 0
      · rw [if_pos c9, ← cw_cnt f M m (i + 1) (b ||| 2 ^ d) (n + 1)]
        refine ya_sum_eq _ (fun c _ => ?_)
        rw [ya_us_s, (hd d hd6 c).1, (hd d hd6 c).2, if_neg (show ¬ d = 6 by omega), if_pos c9]
        rfl
      · rw [if_neg c9]
        refine ya_sum_z _ (fun c _ => ?_)
        rw [ya_us_s, (hd d hd6 c).1, (hd d hd6 c).2, if_neg (show ¬ d = 6 by omega), if_neg c9]
        exact if_neg (by omega)
    rw [ya_sum_eq 6 ed, cw_W_s]
    have eoff : ∀ d, cw_off (fun x => decide (b / 2 ^ x % 2 = 0)) d = fun x => decide ((b ||| 2 ^ d) / 2 ^ x % 2 = 0) := fun d => by
      funext x
      unfold cw_off
      by_cases c3 : x = d
      · rw [if_pos c3]; exact (decide_eq_false (fun z => ((cw_bit b x d).mp z).2 c3)).symm
      · rw [if_neg c3]; exact decide_eq_decide.mpr ⟨fun z => (cw_bit b x d).mpr ⟨z, c3⟩, fun z => ((cw_bit b x d).mp z).1⟩
    simp only [eoff]
    by_cases c1 : n ≤ M
    · rw [if_pos c1, if_pos c1]
      by_cases c2 : n + 1 ≤ M
      · rw [if_pos ⟨trivial, by omega⟩]
        have : ya_sum (fun d => if ya_okh f i d ∧ b / 2 ^ d % 2 = 0 then (if n + 1 ≤ M then cw_W f m (i + 1) (fun x => decide ((b ||| 2 ^ d) / 2 ^ x % 2 = 0)) (fun _ => true) (M - (n + 1)) else 0) else 0) 6 = ya_sum (fun x => if ya_okh f i x ∧ decide (b / 2 ^ x % 2 = 0) = true then cw_W f m (i + 1) (fun y => decide ((b ||| 2 ^ x) / 2 ^ y % 2 = 0)) (fun _ => true) (M - n - 1) else 0) 6 := by
          refine ya_sum_eq 6 (fun d _ => ?_)
          rw [if_pos c2, Nat.sub_sub]
          by_cases c9 : ya_okh f i d ∧ b / 2 ^ d % 2 = 0
          · rw [if_pos c9, if_pos ⟨c9.1, decide_eq_true c9.2⟩]
          · rw [if_neg c9, if_neg (fun z => c9 ⟨z.1, of_decide_eq_true z.2⟩)]
        rw [this]
        omega
      · rw [if_neg (c := True ∧ 0 < M - n) (fun z => by have := z.2; omega), ya_sum_z 6 (fun d _ => by rw [if_neg c2]; exact ite_self 0)]
        omega
    · have c2 : ¬ (n + 1 ≤ M) := by omega
      rw [if_neg c1, if_neg c1, ya_sum_z 6 (fun d _ => by rw [if_neg c2]; exact ite_self 0)]
      rfl
theorem cw_wu (f : Nat → Int) : ∀ N : Nat, (ya_wu f N).2 = ya_sum (fun c => if ya_use f c = (ya_wu f N).1 then 1 else 0) N ∧ (∀ c, c < N → ya_use f c ≤ (ya_wu f N).1) ∧ ((ya_wu f N).1 = 0 ∨ ∃ c, c < N ∧ ya_use f c = (ya_wu f N).1)
  | 0 => ⟨rfl, fun c h => absurd h (Nat.not_lt_zero _), Or.inl rfl⟩
  | N + 1 => by
    obtain ⟨h1, h2, h3⟩ := cw_wu f N
    have e1 : (ya_wu f (N + 1)).1 = max (ya_wu f N).1 (ya_use f N) := rfl
    have e2 : (ya_wu f (N + 1)).2 = if (ya_wu f N).1 < ya_use f N then 1 else if ya_use f N = (ya_wu f N).1 then (ya_wu f N).2 + 1 else (ya_wu f N).2 := rfl
    rw [e1, e2, ya_sum_s]
    refine ⟨?_, fun c hc => ?_, ?_⟩
    · by_cases c1 : (ya_wu f N).1 < ya_use f N
      · have em : max (ya_wu f N).1 (ya_use f N) = ya_use f N := by omega
        rw [if_pos c1, em, ya_sum_z N (fun c hc => if_neg (by have := h2 c hc; omega)), if_pos rfl]; rfl
      · have em : max (ya_wu f N).1 (ya_use f N) = (ya_wu f N).1 := by omega
        rw [if_neg c1, em]
        by_cases c2 : ya_use f N = (ya_wu f N).1
        · rw [if_pos c2, if_pos c2, ← h1]
        · rw [if_neg c2, if_neg c2, ← h1]; omega
    · by_cases c1 : c = N
      · rw [c1]; omega
      · have := h2 c (by omega); omega
    · by_cases c1 : (ya_wu f N).1 < ya_use f N
      · exact Or.inr ⟨N, by omega, by omega⟩
      · have em : max (ya_wu f N).1 (ya_use f N) = (ya_wu f N).1 := by omega
        rw [em]
        rcases h3 with h3 | ⟨c, hc, h3⟩
        · exact Or.inl h3
        · exact Or.inr ⟨c, by omega, h3⟩
/-- a matching's code -/
theorem us_of (f : Nat → Int) (s : Nat → Int) : ∀ (m i b : Nat) (n : Int), (∀ j, j < m → s (i + j) = -1 ∨ (0 ≤ s (i + j) ∧ (s (i + j)).toNat < 6 ∧ ya_okh f (i + j) (s (i + j)).toNat ∧ b / 2 ^ (s (i + j)).toNat % 2 = 0)) → (∀ j j', j < m → j' < m → j ≠ j' → s (i + j) = s (i + j') → s (i + j) = -1) → ∃ c, c < 7 ^ m ∧ ya_us f m i c b n = n + ya_sum (fun j => ma_d s (i + j)) m
  | 0, _, _, n, _, _ => ⟨0, by decide, by show n = n + 0; omega⟩
  | m + 1, i, b, n, h1, h2 => by
    have sh : ∀ j, i + (j + 1) = i + 1 + j := fun j => by omega
    have e7 : 7 ^ (m + 1) = 7 * 7 ^ m := by rw [Nat.pow_succ, Nat.mul_comm]
    have h2' : ∀ j j', j < m → j' < m → j ≠ j' → s (i + 1 + j) = s (i + 1 + j') → s (i + 1 + j) = -1 := fun j j' hj hj' hjj e => by
      rw [← sh, ← sh] at e
      rw [← sh]
      exact h2 (j + 1) (j' + 1) (by omega) (by omega) (by omega) e
    rw [ya_sum_hs (ma_d s) i m]
    have h10 := h1 0 (by omega)
    rw [Nat.add_zero] at h10
    rcases h10 with c | ⟨c1, c2, c3, c4⟩
    · obtain ⟨c', k1, k2⟩ := us_of f s m (i + 1) b n (fun j hj => by have := h1 (j + 1) (by omega); rw [sh] at this; exact this) h2'
      refine ⟨7 * c' + 6, by omega, ?_⟩
      rw [ya_us_s, if_pos (by omega), show (7 * c' + 6) / 7 = c' by omega, k2]
      have : ma_d s i = 0 := by unfold ma_d; rw [if_pos c]
      omega
    · obtain ⟨c', k1, k2⟩ := us_of f s m (i + 1) (b ||| 2 ^ (s i).toNat) (n + 1) (fun j hj => by
        have h9 := h1 (j + 1) (by omega)
        rw [sh] at h9
        rcases h9 with q | ⟨q1, q2, q3, q4⟩
        · exact Or.inl q
        · refine Or.inr ⟨q1, q2, q3, (cw_bit _ _ _).mpr ⟨q4, fun w => ?_⟩⟩
          have := h2 (j + 1) 0 (by omega) (by omega) (by omega) (by show s (i + (j + 1)) = s i; rw [sh]; omega)
          rw [sh] at this
          omega) h2'
      refine ⟨7 * c' + (s i).toNat, by omega, ?_⟩
      rw [ya_us_s, if_neg (by omega), show (7 * c' + (s i).toNat) / 7 = c' by omega, show (7 * c' + (s i).toNat) % 7 = (s i).toNat by omega, if_pos ⟨c3, c4⟩, k2]
      have : ma_d s i = 1 := by unfold ma_d; rw [if_neg (by omega)]
      omega
/-- a code's matching -/
theorem us_to (f : Nat → Int) : ∀ (m i c b : Nat) (n : Int), ya_us f m i c b n ≠ -1 → ∃ s : Nat → Int, (∀ j, j < m → s (i + j) = -1 ∨ (0 ≤ s (i + j) ∧ ya_okh f (i + j) (s (i + j)).toNat ∧ b / 2 ^ (s (i + j)).toNat % 2 = 0)) ∧ (∀ j j', j < m → j' < m → j ≠ j' → s (i + j) = s (i + j') → s (i + j) = -1) ∧ ya_us f m i c b n = n + ya_sum (fun j => ma_d s (i + j)) m
  | 0, _, _, _, n, _ => ⟨fun _ => -1, fun j hj => absurd hj (Nat.not_lt_zero _), fun j _ hj => absurd hj (Nat.not_lt_zero _), by show n = n + 0; omega⟩
  | m + 1, i, c, b, n, h => by
    have sh : ∀ j, i + (j + 1) = i + 1 + j := fun j => by omega
    rw [ya_us_s] at h ⊢
    have glue : ∀ (s : Nat → Int) (x : Int) (b' : Nat) (r n' : Int), (∀ j, j < m → s (i + 1 + j) = -1 ∨ (0 ≤ s (i + 1 + j) ∧ ya_okh f (i + 1 + j) (s (i + 1 + j)).toNat ∧ b' / 2 ^ (s (i + 1 + j)).toNat % 2 = 0)) → (∀ j j', j < m → j' < m → j ≠ j' → s (i + 1 + j) = s (i + 1 + j') → s (i + 1 + j) = -1) → r = n' + ya_sum (fun j => ma_d s (i + 1 + j)) m → (x = -1 ∨ (0 ≤ x ∧ ya_okh f i x.toNat ∧ b / 2 ^ x.toNat % 2 = 0)) → n' = n + (if x = -1 then 0 else 1) → (∀ y : Nat, b' / 2 ^ y % 2 = 0 → b / 2 ^ y % 2 = 0 ∧ (y : Int) ≠ x) → ∃ s : Nat → Int, (∀ j, j < m + 1 → s (i + j) = -1 ∨ (0 ≤ s (i + j) ∧ ya_okh f (i + j) (s (i + j)).toNat ∧ b / 2 ^ (s (i + j)).toNat % 2 = 0)) ∧ (∀ j j', j < m + 1 → j' < m + 1 → j ≠ j' → s (i + j) = s (i + j') → s (i + j) = -1) ∧ r = n + ya_sum (fun j => ma_d s (i + j)) (m + 1) := by
      intro s x b' r n' k1 k2 k3 k4 k5 k6
      have nx : ∀ j, j < m → s (i + 1 + j) = x → s (i + 1 + j) = -1 := fun j hj e => by
        rcases k1 j hj with q | ⟨q1, q2, q3⟩
        · exact q
        · exact absurd (by omega) (k6 _ q3).2
      refine ⟨va_up s i x, fun j hj => ?_, fun j j' hj hj' hjj e => ?_, ?_⟩
      · cases j with
        | zero => rw [Nat.add_zero, va_upS]; exact k4
        | succ j =>
          rw [va_upN _ _ (by omega), sh]
          exact (k1 j (by omega)).imp id (fun q => ⟨q.1, q.2.1, (k6 _ q.2.2).1⟩)
      · cases j with
        | zero =>
          cases j' with
          | zero => exact absurd rfl hjj
          | succ j' =>
            have e : va_up s i x i = va_up s i x (i + (j' + 1)) := e
            show va_up s i x i = -1
            rw [va_upS, va_upN _ _ (by omega), sh] at e
            rw [va_upS, e]
            exact nx j' (by omega) e.symm
        | succ j =>
          cases j' with
          | zero =>
            have e : va_up s i x (i + (j + 1)) = va_up s i x i := e
            rw [va_upS, va_upN _ _ (by omega), sh] at e
            rw [va_upN _ _ (by omega), sh]
            exact nx j (by omega) e
          | succ j' =>
            rw [va_upN _ _ (by omega), va_upN _ _ (by omega), sh j, sh j'] at e
            rw [va_upN _ _ (by omega), sh]
            exact k2 j j' (by omega) (by omega) (by omega) e
      · rw [ya_sum_hs (ma_d (va_up s i x)) i m, k3, k5]
        have e1 : ma_d (va_up s i x) i = if x = -1 then 0 else 1 := by
          unfold ma_d
          rw [va_upS]
        have e2 : ya_sum (fun j => ma_d (va_up s i x) (i + 1 + j)) m = ya_sum (fun j => ma_d s (i + 1 + j)) m := ya_sum_eq m (fun j _ => by
          unfold ma_d
          rw [va_upN _ _ (by omega)])
        rw [e1, e2]
        omega
    by_cases c6 : c % 7 = 6
    · rw [if_pos c6] at h ⊢
      obtain ⟨s, k1, k2, k3⟩ := us_to f m (i + 1) (c / 7) b n h
      exact glue s (-1) b _ n k1 k2 k3 (Or.inl rfl) (by rw [if_pos rfl]; omega) (fun y hy => ⟨hy, by omega⟩)
    · rw [if_neg c6] at h ⊢
      by_cases c7 : ya_okh f i (c % 7) ∧ b / 2 ^ (c % 7) % 2 = 0
      · rw [if_pos c7] at h ⊢
        obtain ⟨s, k1, k2, k3⟩ := us_to f m (i + 1) (c / 7) (b ||| 2 ^ (c % 7)) (n + 1) h
        exact glue s ((c % 7 : Nat) : Int) (b ||| 2 ^ (c % 7)) _ (n + 1) k1 k2 k3 (Or.inr ⟨by omega, by rw [Int.toNat_natCast]; exact c7.1, by rw [Int.toNat_natCast]; exact c7.2⟩) (by rw [if_neg (by omega)]) (fun y hy => by
          have := (cw_bit b y (c % 7)).mp hy
          exact ⟨this.1, by omega⟩)
      · rw [if_neg c7] at h; exact absurd rfl h
theorem cw_max {t : Nat} {f : Nat → Int} (ok : ya_ok t f) {w : Nat} (hw : w = 7 ^ 4) : ma_max f (fun z => z < (f 0).toNat) (ya_wu f w).1 := by
  have hn := ok.num
  obtain ⟨-, h2, h3⟩ := cw_wu f w
  have z0 : ma_n (fun _ => -1) = 0 := by unfold ma_n; rw [ya_sum4]; rfl
  have e0 : ∀ s : Nat → Int, ya_sum (fun j => ma_d s (0 + j)) 4 = ma_n s := fun s => ya_sum_eq 4 (fun j _ => by rw [Nat.zero_add])
  refine ⟨?_, fun s hs => ?_⟩
  · rcases h3 with h3 | ⟨c, hc, h3⟩
    · exact ⟨fun _ => -1, ⟨fun _ _ => Or.inl rfl, fun _ _ _ _ _ _ => rfl⟩, by rw [z0, h3]⟩
    · have rg := ya_wu_rg f w
      obtain ⟨s, k1, k2, k3⟩ := us_to f 4 0 c 0 0 (show ya_use f c ≠ -1 by omega)
      rw [e0] at k3
      refine ⟨s, ⟨fun i hi => ?_, fun i j hi hj hij e => ?_⟩, by rw [← h3]; unfold ya_use; omega⟩
      · have := k1 i hi
        rw [Nat.zero_add] at this
        exact this.imp id (fun q => ⟨q.1, show (s i).toNat < (f 0).toNat by have := q.2.1.1; omega, q.2.1.2⟩)
      · have := k2 i j hi hj hij
        rw [Nat.zero_add, Nat.zero_add] at this
        exact this e
  · obtain ⟨c, k1, k2⟩ := us_of f s 4 0 0 0 (fun j hj => by
      rw [Nat.zero_add]
      rcases hs.1 j hj with q | ⟨q1, q2, q3⟩
      · exact Or.inl q
      · have q2 : (s j).toNat < (f 0).toNat := q2
        exact Or.inr ⟨q1, by omega, ⟨by omega, q3⟩, by rw [Nat.zero_div]⟩) (fun j j' hj hj' hjj e => by
      rw [Nat.zero_add, Nat.zero_add] at e
      rw [Nat.zero_add]
      exact hs.2 j j' hj hj' hjj e)
    rw [e0, Int.zero_add] at k2
    rw [← k2]
    exact h2 c (by omega)
/-- THE MODEL'S NUMBERS are the component's -/
theorem cw_most {t : Nat} {f : Nat → Int} (ok : ya_ok t f) {w : Nat} (hw : w = 2401) : (km f (f 0).toNat).2 = (ya_wu f w).1 := (ku_km (f := f) (f 0).toNat).2.2.eq (cw_max ok (by omega))
theorem cw_uses {t : Nat} {f : Nat → Int} (ok : ya_ok t f) {w : Nat} (hw : w = 2401) : us_F f (f 0).toNat 0 0 (km f (f 0).toNat).2 = (ya_wu f w).2 := by
  have hn := ok.num
  have rg := ya_wu_rg f w
  rw [cw_most ok hw, (cw_wu f w).1]
  have el : (ya_wu f w).1 = (((ya_wu f w).1.toNat : Nat) : Int) := by omega
  have h := cw_cnt f (ya_wu f w).1.toNat 4 0 0 0
  rw [if_pos (Nat.zero_le _), show (7 : Nat) ^ 4 = w by omega] at h
  rw [el, cw_us ok (f 0).toNat 0 0 _ (by omega)]
  refine Eq.trans ?_ h.symm
  have e1 : (fun x => decide (0 ≤ x)) = fun x : Nat => decide (0 / 2 ^ x % 2 = 0) := by
    funext x
    rw [Nat.zero_div]
    rfl
  have e2 : (fun i => decide (0 / 2 ^ i % 2 = 0)) = fun _ : Nat => true := by
    funext x
    rw [Nat.zero_div]
    rfl
  rw [e1, e2]
  rfl
