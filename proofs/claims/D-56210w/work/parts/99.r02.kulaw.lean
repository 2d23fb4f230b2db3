set_option maxRecDepth 100000
/-! A SEARCH for a place of hull x among the slips that aren't tried (tr is 0) -/
/-- what lies on the slips that aren't tried fits -/
def ku_v (f : Nat → Int) (on tr : Nat → Int) : Prop := (∀ i, i < 4 → tr i = 0 → on i = -1 ∨ (0 ≤ on i ∧ ya_ft f (on i).toNat i)) ∧ ∀ i j, i < 4 → j < 4 → i ≠ j → tr i = 0 → tr j = 0 → on i = on j → on i = -1
def ku_d (on tr : Nat → Int) (i : Nat) : Int := if tr i = 0 ∧ on i ≠ -1 then 1 else 0
/-- x found one: the hulls of before and x -/
def ku_T (f : Nat → Int) (x : Nat) (on tr on' : Nat → Int) : Prop := (∀ i, i < 4 → tr i ≠ 0 → on' i = on i) ∧ (∀ i, i < 4 → tr i = 0 → on' i = -1 ∨ (0 ≤ on' i ∧ ya_ft f (on' i).toNat i ∧ (on' i = x ∨ ∃ j, j < 4 ∧ tr j = 0 ∧ on j = on' i))) ∧ (∀ i j, i < 4 → j < 4 → i ≠ j → tr i = 0 → tr j = 0 → on' i = on' j → on' i = -1) ∧ ya_sum (ku_d on' tr) 4 = ya_sum (ku_d on tr) 4 + 1
/-- x found none: what was tried is full, and its hulls fit nowhere else -/
def ku_F (f : Nat → Int) (x : Nat) (on tr tr' : Nat → Int) : Prop := (∀ i, i < 4 → tr i ≠ 0 → tr' i ≠ 0) ∧ (∀ i, i < 4 → ya_ft f x i → tr' i ≠ 0) ∧ ∀ i, i < 4 → tr i = 0 → tr' i ≠ 0 → on i ≠ -1 ∧ ∀ j, j < 4 → ya_ft f (on i).toNat j → tr' j ≠ 0
def ku_R (f : Nat → Int) (x : Nat) (on tr : Nat → Int) (r : Bool × kf_S) : Prop := (r.1 = true → ku_T f x on tr r.2.1) ∧ (r.1 = false → r.2.1 = on ∧ ku_F f x on tr r.2.2)
theorem kf_un_le {t t' : Nat → Int} (h : ∀ i, i < 4 → t i ≠ 0 → t' i ≠ 0) : kf_un t' ≤ kf_un t := by
  have key : ∀ i, i < 4 → (if t' i = 0 then 1 else 0) ≤ (if t i = 0 then 1 else 0) := fun i hi => by
    by_cases c : t i = 0
    · rw [if_pos c]; split <;> omega
    · rw [if_neg (h i hi c)]; omega
  have h0 := key 0 (by omega)
  have h1 := key 1 (by omega)
  have h2 := key 2 (by omega)
  have h3 := key 3 (by omega)
  unfold kf_un
  omega
theorem ku_l {f : Nat → Int} {rec : Nat → kf_S → Bool × kf_S} {n : Nat} (hrec : ∀ (y : Nat) (on tr : Nat → Int), kf_un tr < n → ku_v f on tr → (∀ j, j < 4 → tr j = 0 → on j ≠ (y : Int)) → ku_R f y on tr (rec y (on, tr))) {x : Nat} {on tr0 : Nat → Int} (hv : ku_v f on tr0) (hx : ∀ j, j < 4 → tr0 j = 0 → on j ≠ (x : Int)) :
    ∀ (d i : Nat) (tr : Nat → Int), i + d = 4 → kf_un tr < n + 1 → (∀ j, j < 4 → tr0 j ≠ 0 → tr j ≠ 0) → (∀ j, j < i → ya_ft f x j → tr j ≠ 0) → (∀ j, j < 4 → tr0 j = 0 → tr j ≠ 0 → on j ≠ -1 ∧ ∀ j', j' < 4 → ya_ft f (on j).toNat j' → tr j' ≠ 0) → ku_R f x on tr0 (kf_l f rec x d i (on, tr)) := by
  intro d
  induction d with
  | zero =>
    intro i tr hi hu h1 h2 h3
    exact ⟨fun e => (by cases e), fun _ => ⟨rfl, h1, fun j hj => h2 j (by omega), h3⟩⟩
  | succ d ih =>
    intro i tr hi hu h1 h2 h3
    have e : kf_l f rec x (d + 1) i (on, tr) = if tr i = 0 ∧ (f (21 + 28 * x) = 0 ∧ 2 ≤ f (22 + 28 * x) ∧ f (22 + 28 * x) ≤ f (17 + i)) then
      (if on i = -1 then (true, (va_up on i x, va_up tr i 1))
       else if (rec (on i).toNat (on, va_up tr i 1)).1 = true then (true, (va_up (rec (on i).toNat (on, va_up tr i 1)).2.1 i x, (rec (on i).toNat (on, va_up tr i 1)).2.2))
       else kf_l f rec x d (i + 1) (rec (on i).toNat (on, va_up tr i 1)).2)
      else kf_l f rec x d (i + 1) (on, tr) := rfl
    rw [e]
    have hi4 : i < 4 := by omega
    by_cases c : tr i = 0 ∧ (f (21 + 28 * x) = 0 ∧ 2 ≤ f (22 + 28 * x) ∧ f (22 + 28 * x) ≤ f (17 + i))
    · rw [if_pos c]
      have t0 : tr0 i = 0 := by
        by_cases q : tr0 i = 0
        · exact q
        · exact absurd c.1 (h1 i hi4 q)
      have fit : ya_ft f x i := c.2
      by_cases c1 : on i = -1
      · rw [if_pos c1]
        refine ⟨fun _ => ?_, fun q => (by cases q)⟩
        show ku_T f x on tr0 (va_up on i (x : Int))
        refine ⟨fun j hj hj2 => ?_, fun j hj hj2 => ?_, fun j k hj hk hjk j0 k0 e => ?_, ?_⟩
        · exact va_upN _ _ (fun z => hj2 (by rw [z]; exact t0))
        · show va_up on i (x : Int) j = -1 ∨ _
          by_cases q : j = i
          · rw [q, va_upS]
            exact Or.inr ⟨by omega, by rw [Int.toNat_natCast]; exact fit, Or.inl rfl⟩
          · rw [va_upN _ _ q]
            rcases hv.1 j hj hj2 with z | z
            · exact Or.inl z
            · exact Or.inr ⟨z.1, z.2, Or.inr ⟨j, hj, hj2, rfl⟩⟩
        · have e : va_up on i (x : Int) j = va_up on i (x : Int) k := e
          show va_up on i (x : Int) j = -1
          by_cases q : j = i
          · rw [q, va_upS, va_upN _ _ (by omega)] at e
            exact absurd e.symm (hx k hk k0)
          · by_cases q2 : k = i
            · rw [q2, va_upS, va_upN _ _ (by omega)] at e
              exact absurd e (hx j hj j0)
            · rw [va_upN _ _ q, va_upN _ _ q2] at e
              rw [va_upN _ _ q]
              exact hv.2 j k hj hk hjk j0 k0 e
        · show ya_sum (ku_d (va_up on i (x : Int)) tr0) 4 = _
          have key : ∀ j, j < 4 → ku_d (va_up on i (x : Int)) tr0 j = ku_d on tr0 j + (if j = i then 1 else 0) := fun j hj => by
            unfold ku_d
            by_cases q : j = i
            · rw [q, va_upS, if_pos ⟨t0, by omega⟩, if_neg (fun z => z.2 c1), if_pos rfl]; rfl
            · rw [va_upN _ _ q, if_neg q]; omega
          rw [ya_sum4, ya_sum4, key 0 (by omega), key 1 (by omega), key 2 (by omega), key 3 (by omega)]
          have : i = 0 ∨ i = 1 ∨ i = 2 ∨ i = 3 := by omega
          rcases this with rfl | rfl | rfl | rfl <;> simp <;> omega
      · rw [if_neg c1]
        have hy := (hv.1 i hi4 t0).resolve_left c1
        have sub : ∀ j, j < 4 → va_up tr i 1 j = 0 → tr0 j = 0 ∧ j ≠ i ∧ tr j = 0 := fun j hj q => by
          by_cases q1 : j = i
          · rw [q1, va_upS] at q; exact absurd q (by decide)
          · rw [va_upN _ _ q1] at q
            refine ⟨?_, q1, q⟩
            by_cases q2 : tr0 j = 0
            · exact q2
            · exact absurd q (h1 j hj q2)
        have un := kf_un_up (t := tr) (i := i) hi4 c.1
        have hv1 : ku_v f on (va_up tr i 1) := ⟨fun j hj q => hv.1 j hj (sub j hj q).1, fun j k hj hk hjk q q2 => hv.2 j k hj hk hjk (sub j hj q).1 (sub k hk q2).1⟩
        have ey : (((on i).toNat : Nat) : Int) = on i := by omega
        have hx1 : ∀ j, j < 4 → va_up tr i 1 j = 0 → on j ≠ (((on i).toNat : Nat) : Int) := fun j hj q z => by
          rw [ey] at z
          obtain ⟨s1, s2, s3⟩ := sub j hj q
          exact c1 (hv.2 i j hi4 hj (by omega) t0 s1 z.symm)
        obtain ⟨R1, R2⟩ := hrec (on i).toNat on (va_up tr i 1) (by omega) hv1 hx1
        by_cases c2 : (rec (on i).toNat (on, va_up tr i 1)).1 = true
        · rw [if_pos c2]
          obtain ⟨a1, a2, a3, a4⟩ := R1 c2
          generalize (rec (on i).toNat (on, va_up tr i 1)).2.1 = on' at a1 a2 a3 a4 ⊢
          have up0 : ∀ j, j < 4 → j ≠ i → tr j ≠ 0 → on' j = on j := fun j hj q q2 => a1 j hj (by rw [va_upN _ _ q]; exact q2)
          have wit : ∀ j, j < 4 → tr0 j = 0 → j ≠ i → on' j = -1 ∨ (0 ≤ on' j ∧ ya_ft f (on' j).toNat j ∧ ∃ k, k < 4 ∧ tr0 k = 0 ∧ on k = on' j) := fun j hj j0 q => by
            by_cases q2 : tr j = 0
            · rcases a2 j hj (by rw [va_upN _ _ q]; exact q2) with z | ⟨z1, z2, z3⟩
              · exact Or.inl z
              · refine Or.inr ⟨z1, z2, ?_⟩
                rcases z3 with z3 | ⟨k, hk, z4, z5⟩
                · exact ⟨i, hi4, t0, by omega⟩
                · exact ⟨k, hk, (sub k hk z4).1, z5⟩
            · rw [up0 j hj q q2]
              rcases hv.1 j hj j0 with z | z
              · exact Or.inl z
              · exact Or.inr ⟨z.1, z.2, j, hj, j0, rfl⟩
          have nx : ∀ j, j < 4 → tr0 j = 0 → j ≠ i → on' j ≠ (x : Int) := fun j hj j0 q z => by
            rcases wit j hj j0 q with w | ⟨-, -, k, hk, k0, w⟩
            · omega
            · exact hx k hk k0 (by omega)
          refine ⟨fun _ => ?_, fun q => (by cases q)⟩
          show ku_T f x on tr0 (va_up on' i (x : Int))
          refine ⟨fun j hj hj2 => ?_, fun j hj hj2 => ?_, fun j k hj hk hjk j0 k0 e => ?_, ?_⟩
          · have ji : j ≠ i := fun z => hj2 (by rw [z]; exact t0)
            show va_up on' i (x : Int) j = _
            rw [va_upN _ _ ji]
            exact up0 j hj ji (h1 j hj hj2)
          · show va_up on' i (x : Int) j = -1 ∨ (0 ≤ va_up on' i (x : Int) j ∧ ya_ft f (va_up on' i (x : Int) j).toNat j ∧ (va_up on' i (x : Int) j = x ∨ ∃ k, k < 4 ∧ tr0 k = 0 ∧ on k = va_up on' i (x : Int) j))
            by_cases q : j = i
            · rw [q, va_upS]
              exact Or.inr ⟨by omega, by rw [Int.toNat_natCast]; exact fit, Or.inl rfl⟩
            · rw [va_upN _ _ q]
              rcases wit j hj hj2 q with z | ⟨z1, z2, z3⟩
              · exact Or.inl z
              · exact Or.inr ⟨z1, z2, Or.inr z3⟩
          · have e : va_up on' i (x : Int) j = va_up on' i (x : Int) k := e
            show va_up on' i (x : Int) j = -1
            by_cases q : j = i
            · rw [q, va_upS, va_upN _ _ (by omega)] at e
              exact absurd e.symm (nx k hk k0 (by omega))
            · by_cases q2 : k = i
              · rw [q2, va_upS, va_upN _ _ (by omega)] at e
                exact absurd e (nx j hj j0 q)
              · rw [va_upN _ _ q, va_upN _ _ q2] at e
                rw [va_upN _ _ q]
                have mix : ∀ j k, j < 4 → k < 4 → j ≠ k → j ≠ i → k ≠ i → tr0 j = 0 → tr0 k = 0 → tr j = 0 → tr k ≠ 0 → on' j = on' k → on' j = -1 := fun j k hj hk hjk ji ki j0 k0 tj tk e => by
                  rw [up0 k hk ki tk] at e
                  rcases a2 j hj (by rw [va_upN _ _ ji]; exact tj) with z | ⟨z1, z2, z3⟩
                  · exact z
                  · rcases z3 with z3 | ⟨k', hk', z4, z5⟩
                    · exact absurd (hv.2 i k hi4 hk (by omega) t0 k0 (by omega)) c1
                    · have k'k : k' ≠ k := fun w => tk (by rw [← w]; exact (sub k' hk' z4).2.2)
                      have := hv.2 k' k hk' hk k'k (sub k' hk' z4).1 k0 (by omega)
                      omega
                by_cases tj : tr j = 0
                · by_cases tk : tr k = 0
                  · exact a3 j k hj hk hjk (by rw [va_upN _ _ q]; exact tj) (by rw [va_upN _ _ q2]; exact tk) e
                  · exact mix j k hj hk hjk q q2 j0 k0 tj tk e
                · by_cases tk : tr k = 0
                  · rw [e]
                    exact mix k j hk hj (Ne.symm hjk) q2 q k0 j0 tk tj e.symm
                  · rw [up0 j hj q tj, up0 k hk q2 tk] at e
                    rw [up0 j hj q tj]
                    exact hv.2 j k hj hk hjk j0 k0 e
          · show ya_sum (ku_d (va_up on' i (x : Int)) tr0) 4 = _
            have key : ∀ j, j < 4 → ku_d (va_up on' i (x : Int)) tr0 j + ku_d on (va_up tr i 1) j = ku_d on tr0 j + ku_d on' (va_up tr i 1) j := fun j hj => by
              unfold ku_d
              by_cases q : j = i
              · have e1 : va_up on' i (x : Int) i = x := va_upS _ _ _
                have e2 : va_up tr i 1 i = 1 := va_upS _ _ _
                rw [q, e1, e2, if_pos (c := tr0 i = 0 ∧ (x : Int) ≠ -1) ⟨t0, by omega⟩, if_pos (c := tr0 i = 0 ∧ on i ≠ -1) ⟨t0, c1⟩, if_neg (c := (1 : Int) = 0 ∧ on i ≠ -1) (fun z => absurd z.1 (by decide)), if_neg (c := (1 : Int) = 0 ∧ on' i ≠ -1) (fun z => absurd z.1 (by decide))]
              · rw [va_upN _ _ q, va_upN _ _ q]
                by_cases tj : tr j = 0
                · have j0 : tr0 j = 0 := (sub j hj (by rw [va_upN _ _ q]; exact tj)).1
                  simp only [tj, j0, true_and]
                  omega
                · rw [if_neg (c := tr j = 0 ∧ on j ≠ -1) (fun z => tj z.1), if_neg (c := tr j = 0 ∧ on' j ≠ -1) (fun z => tj z.1), up0 j hj q tj]
            have k0 := key 0 (by omega)
            have k1 := key 1 (by omega)
            have k2 := key 2 (by omega)
            have k3 := key 3 (by omega)
            rw [ya_sum4, ya_sum4] at a4 ⊢
            omega
        · rw [if_neg c2]
          obtain ⟨b1, b2, b3, b4⟩ := R2 (by simpa using c2)
          generalize hr : (rec (on i).toNat (on, va_up tr i 1)).2 = r at b1 b2 b3 b4 ⊢
          obtain ⟨r1, r2⟩ := r
          have b1 : r1 = on := b1
          subst b1
          have grow : ∀ j, j < 4 → tr j ≠ 0 → r2 j ≠ 0 := fun j hj q => b2 j hj (by
            by_cases z : j = i
            · rw [z, va_upS]; decide
            · rw [va_upN _ _ z]; exact q)
          have ri : r2 i ≠ 0 := b2 i hi4 (by rw [va_upS]; decide)
          refine ih (i + 1) r2 (by omega) (by have h9 : kf_un r2 ≤ kf_un (va_up tr i 1) := kf_un_le b2; omega) (fun j hj q => grow j hj (h1 j hj q)) (fun j hj q => ?_) (fun j hj j0 q => ?_)
          · by_cases z : j = i
            · rw [z]; exact ri
            · exact grow j (by omega) (h2 j (by omega) q)
          · by_cases z : j = i
            · subst z
              exact ⟨c1, b3⟩
            · by_cases tj : tr j = 0
              · exact b4 j hj (by rw [va_upN _ _ z]; exact tj) q
              · obtain ⟨w1, w2⟩ := h3 j hj j0 tj
                exact ⟨w1, fun k hk w => grow k hk (w2 k hk w)⟩
    · rw [if_neg c]
      refine ih (i + 1) tr (by omega) hu h1 (fun j hj q => ?_) h3
      by_cases z : j = i
      · subst z
        exact fun w => c ⟨w, q⟩
      · exact h2 j (by omega) q
theorem ku_kf {f : Nat → Int} : ∀ (n x : Nat) (on tr : Nat → Int), kf_un tr < n → ku_v f on tr → (∀ j, j < 4 → tr j = 0 → on j ≠ (x : Int)) → ku_R f x on tr (kf f n x (on, tr))
  | 0, _, _, _, h, _, _ => absurd h (Nat.not_lt_zero _)
  | n + 1, x, on, tr, h, hv, hx => ku_l (n := n) (fun y on tr => ku_kf n y on tr) hv hx 4 0 tr rfl h (fun _ _ q => q) (fun j hj => absurd hj (Nat.not_lt_zero _)) (fun j _ q q2 => absurd q q2)
/-- the hulls below k -/
theorem ku_km {f : Nat → Int} : ∀ k : Nat, ma_ok f (fun z => z < k) (km f k).1.1 ∧ ma_n (km f k).1.1 = (km f k).2 ∧ ma_max f (fun z => z < k) (km f k).2
  | 0 => by
    have o : ma_ok f (fun z => z < 0) (km f 0).1.1 := ⟨fun i hi => Or.inl (kf_r_at _ _ i hi), fun i _ hi _ _ _ => kf_r_at _ _ i hi⟩
    have z : ∀ s, ma_ok f (fun z => z < 0) s → ma_n s = 0 := fun s h => by
      have : ∀ i, i < 4 → ma_d s i = 0 := fun i hi => by
        rcases h.1 i hi with q | q
        · unfold ma_d; rw [if_pos q]
        · exact absurd q.2.1 (Nat.not_lt_zero _)
      unfold ma_n
      rw [ya_sum4, this 0 (by omega), this 1 (by omega), this 2 (by omega), this 3 (by omega)]
      rfl
    exact ⟨o, z _ o, ⟨_, o, z _ o⟩, fun s h => Int.le_of_eq (z s h)⟩
  | k + 1 => by
    obtain ⟨o, hn, hm⟩ := ku_km (f := f) k
    have r0 : ∀ i, i < 4 → kf_r (km f k).1.2 0 i = 0 := kf_r_at _ _
    have hu := kf_un4 (kf_r (km f k).1.2 0)
    have hv : ku_v f (km f k).1.1 (kf_r (km f k).1.2 0) := ⟨fun i hi _ => (o.1 i hi).imp id (fun q => ⟨q.1, q.2.2⟩), fun i j hi hj hij _ _ => o.2 i j hi hj hij⟩
    obtain ⟨R1, R2⟩ := ku_kf 5 k (km f k).1.1 (kf_r (km f k).1.2 0) (by omega) hv (fun j hj _ z => by
      rcases o.1 j hj with q | q
      · omega
      · have := q.2.1; omega)
    have e1 : (km f (k + 1)).1.1 = (kf f 5 k ((km f k).1.1, kf_r (km f k).1.2 0)).2.1 := rfl
    have e2 : (km f (k + 1)).2 = (km f k).2 + (if (kf f 5 k ((km f k).1.1, kf_r (km f k).1.2 0)).1 = true then 1 else 0) := rfl
    rw [e1, e2]
    have cnt : ∀ s : Nat → Int, ya_sum (ku_d s (kf_r (km f k).1.2 0)) 4 = ma_n s := fun s => by
      have key : ∀ i, i < 4 → ku_d s (kf_r (km f k).1.2 0) i = ma_d s i := fun i hi => by
        unfold ku_d ma_d
        by_cases c : s i = -1
        · rw [if_pos c, if_neg (fun z => z.2 c)]
        · rw [if_neg c, if_pos ⟨r0 i hi, c⟩]
      unfold ma_n
      rw [ya_sum4, ya_sum4, key 0 (by omega), key 1 (by omega), key 2 (by omega), key 3 (by omega)]
    by_cases c : (kf f 5 k ((km f k).1.1, kf_r (km f k).1.2 0)).1 = true
    · rw [if_pos c]
      obtain ⟨a1, a2, a3, a4⟩ := R1 c
      generalize (kf f 5 k ((km f k).1.1, kf_r (km f k).1.2 0)).2.1 = on' at a1 a2 a3 a4 ⊢
      have o' : ma_ok f (fun z => z < k + 1) on' := by
        refine ⟨fun i hi => ?_, fun i j hi hj hij e => a3 i j hi hj hij (r0 i hi) (r0 j hj) e⟩
        rcases a2 i hi (r0 i hi) with q | ⟨q1, q2, q3⟩
        · exact Or.inl q
        · refine Or.inr ⟨q1, ?_, q2⟩
          show (on' i).toNat < k + 1
          rcases q3 with q3 | ⟨j, hj, -, q4⟩
          · omega
          · rcases o.1 j hj with w | w
            · omega
            · have := w.2.1
              have : ((km f k).1.1 j).toNat < k := this
              omega
      rw [cnt, cnt, hn] at a4
      exact ⟨o', a4, hm.add o' a4 (fun z hz => by have hz : z < k + 1 := hz; show z < k ∨ z = k; omega)⟩
    · rw [if_neg c, Int.add_zero]
      obtain ⟨b1, b2, b3, b4⟩ := R2 (by simpa using c)
      rw [b1]
      generalize (kf f 5 k ((km f k).1.1, kf_r (km f k).1.2 0)).2.2 = tr' at b2 b3 b4
      refine ⟨o.mono (fun z hz => Nat.lt_succ_of_lt hz), hn, hm.same (T := fun i => decide (tr' i ≠ 0)) (M := (km f k).1.1) (fun z hz => Nat.lt_succ_of_lt hz) o (fun i hi q => (b4 i hi (r0 i hi) (of_decide_eq_true q)).1) (fun z i hi q hz hf => ?_)⟩
      have q : tr' i = 0 := by
        have := of_decide_eq_false q
        omega
      refine ⟨?_, fun j hj w e => ?_⟩
      · have hz : z < k + 1 := hz
        show z < k
        have : z ≠ k := fun e => b3 i hi (by rw [← e]; exact hf) q
        omega
      · exact (b4 j hj (r0 j hj) (of_decide_eq_true w)).2 i hi (by rw [e, Int.toNat_natCast]; exact hf) q
