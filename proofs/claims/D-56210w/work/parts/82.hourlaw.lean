set_option maxRecDepth 100000
/-! AN HOUR: hull after hull is as good as all hulls' water, all hulls' caulking, all sinking -/
def ph_F (f : Nat → Int) (hr : Int) : Nat → (Nat → Int) × Int
  | 0 => (f, 0)
  | k + 1 => (cp_h (ph_F f hr k).1 k hr, (ph_F f hr k).2 + cp_r (ph_F f hr k).1 k hr)
theorem cp_s_24 (f : Nat → Int) (k : Nat) (hr : Int) : ∀ s, cp_s f k hr s (24 + 28 * k) = f (24 + 28 * k) + ya_sum (fun s => 9 - f (41 + 28 * k + s)) s
  | 0 => by simp [cp_s, ya_sum]
  | s + 1 => by
    have ih := cp_s_24 f k hr s
    have e := cp_s_out f k hr s (41 + 28 * k + s) (by omega) (by omega)
    rw [ya_sum_s]
    unfold cp_s
    rw [va_upN _ _ (by omega), va_upS, ih, e]
    omega
theorem cp_s_41 (f : Nat → Int) (k : Nat) (hr : Int) : ∀ s j, j < s → cp_s f k hr s (41 + 28 * k + j) = f (41 + 28 * k + j) - (if hr % 6 = 0 ∧ 0 < f (41 + 28 * k + j) then 1 else 0)
  | 0, _, h => absurd h (Nat.not_lt_zero _)
  | s + 1, j, h => by
    have e := cp_s_out f k hr s (41 + 28 * k + s) (by omega) (by omega)
    unfold cp_s
    by_cases c : j = s
    · subst c
      rw [va_upS, e]
    · rw [va_upN _ _ (by omega), va_upN _ _ (by omega)]
      exact cp_s_41 f k hr s j (by omega)
theorem cp_s_loc {f F : Nat → Int} {k : Nat} {hr : Int} (h : ∀ i, 21 + 28 * k ≤ i → i < 49 + 28 * k → F i = f i) : ∀ s, s ≤ 8 → ∀ i, 21 + 28 * k ≤ i → i < 49 + 28 * k → cp_s F k hr s i = cp_s f k hr s i := by
  intro s
  induction s with
  | zero => exact fun _ i h1 h2 => h i h1 h2
  | succ s ih =>
    intro hs i h1 h2
    have i1 := ih (by omega)
    unfold cp_s
    have a1 := i1 (41 + 28 * k + s) (by omega) (by omega)
    have a2 := i1 (24 + 28 * k) (by omega) (by omega)
    rw [a1, a2]
    by_cases c : i = 41 + 28 * k + s
    · subst c; rw [va_upS, va_upS]
    · rw [va_upN _ _ c, va_upN _ _ c]
      by_cases c2 : i = 24 + 28 * k
      · subst c2; rw [va_upS, va_upS]
      · rw [va_upN _ _ c2, va_upN _ _ c2]
        exact i1 i h1 h2
theorem cp_g_wt {f : Nat → Int} {k : Nat} {hr : Int} (hn : ya_fr f k) : ya_wt (cp_g f k hr) k = ya_dry f k + (f (24 + 28 * k) + ya_sum (fun s => 9 - f (41 + 28 * k + s)) (ya_se f k)) ∧ ya_wd (cp_g f k hr) k = ya_wd f k := by
  have o : ∀ i, i < 41 + 28 * k → i ≠ 24 + 28 * k → cp_g f k hr i = f i := fun i h1 h2 => cp_s_out f k hr _ i h2 (Or.inl h1)
  refine ⟨?_, ya_wd_eq hn (o _ (by omega) (by omega)) (fun i h1 h2 => o i h2 (by omega))⟩
  unfold ya_wt
  rw [ya_dry_eq hn (o _ (by omega) (by omega)) (o _ (by omega) (by omega)) (fun i h1 h2 => o i h2 (by omega))]
  unfold cp_g
  rw [cp_s_24]
theorem ya_fr.cg {f F : Nat → Int} {k : Nat} (hn : ya_fr f k) (h : F (22 + 28 * k) = f (22 + 28 * k)) : ya_fr F k := by
  unfold ya_fr at hn ⊢
  rw [h]
  exact hn
theorem cp_loc {f F : Nat → Int} {k : Nat} {hr : Int} (hn : ya_fr f k) (h : ∀ i, 21 + 28 * k ≤ i → i < 49 + 28 * k → F i = f i) : (∀ i, 21 + 28 * k ≤ i → i < 49 + 28 * k → cp_h F k hr i = cp_h f k hr i) ∧ cp_r F k hr = cp_r f k hr := by
  have hF : ya_fr F k := hn.cg (h _ (by omega) (by omega))
  have se : ya_se F k = ya_se f k := ya_se_cg (h _ (by omega) (by omega))
  have se7 := hn.se
  have gl : ∀ i, 21 + 28 * k ≤ i → i < 49 + 28 * k → cp_g F k hr i = cp_g f k hr i := fun i h1 h2 => by
    unfold cp_g
    rw [se]
    exact cp_s_loc h _ (by omega) i h1 h2
  have w : ya_wt (cp_g F k hr) k = ya_wt (cp_g f k hr) k := by
    rw [(cp_g_wt hF).1, (cp_g_wt hn).1, se, h _ (by omega) (by omega), ya_dry_eq hn (h _ (by omega) (by omega)) (h _ (by omega) (by omega)) (fun i h1 h2 => h i (by omega) (by omega)), ya_sum_eq (g := fun s => 9 - F (41 + 28 * k + s)) (g' := fun s => 9 - f (41 + 28 * k + s)) _ (fun j hj => by show 9 - F _ = 9 - f _; rw [h _ (by omega) (by omega)])]
  have wd : ya_wd (cp_g F k hr) k = ya_wd (cp_g f k hr) k := by
    rw [(cp_g_wt hF).2, (cp_g_wt hn).2, ya_wd_eq hn (h _ (by omega) (by omega)) (fun i h1 h2 => h i (by omega) (by omega))]
  unfold cp_h cp_r
  rw [w, wd, h (21 + 28 * k) (by omega) (by omega)]
  refine ⟨fun i h1 h2 => ?_, rfl⟩
  by_cases c : f (21 + 28 * k) = 1
  · rw [if_pos c, if_pos c]
    by_cases c2 : ya_wt (cp_g f k hr) k ≤ ya_wd (cp_g f k hr) k * 40 / 2
    · rw [if_pos c2, if_pos c2]; exact gl i h1 h2
    · rw [if_neg c2, if_neg c2]
      by_cases c3 : i = 21 + 28 * k
      · subst c3; rw [va_upS, va_upS]
      · rw [va_upN _ _ c3, va_upN _ _ c3]; exact gl i h1 h2
  · rw [if_neg c, if_neg c]; exact h i h1 h2
theorem cp_h_out {f : Nat → Int} {k : Nat} {hr : Int} (hn : ya_fr f k) (i : Nat) (hi : i ≠ 21 + 28 * k) (h2 : i ≠ 24 + 28 * k) (h3 : i < 41 + 28 * k ∨ 48 + 28 * k ≤ i) : cp_h f k hr i = f i := by
  have se7 := hn.se
  have o : cp_g f k hr i = f i := cp_s_out f k hr _ i h2 (by omega)
  unfold cp_h
  split
  · split
    · exact o
    · rw [va_upN _ _ hi]; exact o
  · rfl
theorem ph_cl {f : Nat → Int} {hr : Int} : ∀ n, (∀ k, k < n → ya_fr f k) → (∀ i, (∀ k, k < n → i < 21 + 28 * k ∨ 49 + 28 * k ≤ i) → (ph_F f hr n).1 i = f i) ∧ (∀ k, k < n → ∀ i, 21 + 28 * k ≤ i → i < 49 + 28 * k → (ph_F f hr n).1 i = cp_h f k hr i) ∧ (ph_F f hr n).2 = ya_sum (fun k => cp_r f k hr) n := by
  intro n
  induction n with
  | zero => exact fun _ => ⟨fun _ _ => rfl, fun k hk => absurd hk (Nat.not_lt_zero _), rfl⟩
  | succ n ih =>
    intro hfr
    obtain ⟨i1, i2, i3⟩ := ih (fun k hk => hfr k (by omega))
    have loc := cp_loc (hr := hr) (hfr n (by omega)) (fun i h1 h2 => i1 i (fun k hk => by omega))
    have hF : ya_fr (ph_F f hr n).1 n := (hfr n (by omega)).cg (i1 _ (fun k hk => by omega))
    refine ⟨fun i hi => ?_, fun k hk i h1 h2 => ?_, ?_⟩
    · have := hi n (by omega)
      show cp_h (ph_F f hr n).1 n hr i = _
      rw [cp_h_out hF i (by omega) (by omega) (by omega)]
      exact i1 i (fun k hk => hi k (by omega))
    · show cp_h (ph_F f hr n).1 n hr i = _
      by_cases c : k = n
      · subst c; exact loc.1 i h1 h2
      · rw [cp_h_out hF i (by omega) (by omega) (by omega)]
        exact i2 k (by omega) i h1 h2
    · show (ph_F f hr n).2 + cp_r (ph_F f hr n).1 n hr = _
      rw [i3, loc.2]
      rfl
theorem ya_dr_no {wide w : Int} (h0 : 0 ≤ wide) : ya_dr wide w = -1 ↔ ¬ w ≤ wide * 40 / 2 := by
  unfold ya_dr
  rcases ya_drF_spec wide w 41 0 with ⟨h1, h2⟩ | ⟨j, h1, h2, h3, h4, h5⟩
  · exact ⟨fun _ => h2 40 (by omega) (by omega), fun _ => h1⟩
  · refine ⟨fun e => by omega, fun e => absurd ?_ e⟩
    have := ya_fl_mono (wide := wide) h0 (show j ≤ 40 by omega)
    exact Int.le_trans h4 this
theorem sp_h3_in {B : Nat → Int} : ∀ n, (∀ k, k < n → ya_fr B k) → (∀ k, k < n → (sp_h3 B n).1 (21 + 28 * k) = if B (21 + 28 * k) = 1 ∧ ya_dr (ya_wd B k) (ya_wt B k) = -1 then 3 else B (21 + 28 * k)) ∧ (sp_h3 B n).2 = ya_sum (fun k => if B (21 + 28 * k) = 1 ∧ ya_dr (ya_wd B k) (ya_wt B k) = -1 then 1 else 0) n := by
  intro n
  induction n with
  | zero => exact fun _ => ⟨fun k hk => absurd hk (Nat.not_lt_zero _), rfl⟩
  | succ n ih =>
    intro hfr
    obtain ⟨i1, i2⟩ := ih (fun k hk => hfr k (by omega))
    have o : ∀ i, (∀ k, k < n → i ≠ 21 + 28 * k) → (sp_h3 B n).1 i = B i := sp_h3_out B n
    have hn := hfr n (by omega)
    have w1 : ya_wd (sp_h3 B n).1 n = ya_wd B n := ya_wd_eq hn (o _ (fun k hk => by omega)) (fun i h1 h2 => o i (fun k hk => by omega))
    have w2 : ya_wt (sp_h3 B n).1 n = ya_wt B n := by
      unfold ya_wt
      rw [ya_dry_eq hn (o _ (fun k hk => by omega)) (o _ (fun k hk => by omega)) (fun i h1 h2 => o i (fun k hk => by omega)), o _ (fun k hk => by omega)]
    have w3 : (sp_h3 B n).1 (21 + 28 * n) = B (21 + 28 * n) := o _ (fun k hk => by omega)
    have eS : sp_h3 B (n + 1) = if B (21 + 28 * n) = 1 ∧ ya_dr (ya_wd B n) (ya_wt B n) = -1 then (va_up (sp_h3 B n).1 (21 + 28 * n) 3, (sp_h3 B n).2 + 1) else sp_h3 B n := by
      rw [sp_h3, w1, w2, w3]
    rw [eS]
    by_cases c : B (21 + 28 * n) = 1 ∧ ya_dr (ya_wd B n) (ya_wt B n) = -1
    · rw [if_pos c]
      refine ⟨fun k hk => ?_, ?_⟩
      · by_cases c2 : k = n
        · subst c2
          rw [if_pos c]
          exact va_upS _ _ _
        · show va_up _ _ _ _ = _
          rw [va_upN _ _ (by omega)]
          exact i1 k (by omega)
      · rw [ya_sum_s]
        show (sp_h3 B n).2 + 1 = _
        rw [i2, if_pos c]
    · rw [if_neg c]
      refine ⟨fun k hk => ?_, ?_⟩
      · by_cases c2 : k = n
        · subst c2
          rw [if_neg c]
          exact w3
        · exact i1 k (by omega)
      · rw [ya_sum_s, i2, if_neg c, Int.add_zero]
theorem ph_hour {t : Nat} {f : Nat → Int} (ok : ya_ok t f) : ph_F (va_up f 1 (f 1 + 1)) (f 1 + 1) (f 0).toNat = sp_hour f := by
  have hn := ok.num
  have n6 : (f 0).toNat ≤ 6 := by omega
  obtain ⟨n, hN⟩ : ∃ n, (f 0).toNat = n := ⟨_, rfl⟩
  obtain ⟨F, hF⟩ : ∃ F, F = va_up f 1 (f 1 + 1) := ⟨_, rfl⟩
  have Fo : ∀ i, i ≠ 1 → F i = f i := fun i hi => by rw [hF]; exact va_upN _ _ hi
  have F1 : F 1 = f 1 + 1 := by rw [hF]; exact va_upS _ _ _
  have fr : ∀ k, k < n → ya_fr F k := fun k hk => (ok.fr (k := k) (by omega)).cg (Fo _ (by omega))
  have cau : ∀ k j, k < n → j < 8 → 0 ≤ F (41 + 28 * k + j) := fun k j hk hj => by rw [Fo _ (by omega)]; exact (ok.cau (k := k) (by omega) hj).1
  have wd0 : ∀ k, k < n → 0 ≤ ya_wd F k := fun k hk => by
    rw [ya_wd_eq (f := f) (ok.fr (by omega)) (Fo _ (by omega)) (fun i h1 h2 => Fo i (by omega))]
    exact (ok.wd (k := k) (by omega)).1
  obtain ⟨p1, p2, p3⟩ := ph_cl (f := F) (hr := f 1 + 1) n fr
  obtain ⟨a, ha⟩ : ∃ a, a = sp_h1 F n := ⟨_, rfl⟩
  obtain ⟨b, hb⟩ : ∃ b, b = sp_h2 a n := ⟨_, rfl⟩
  have a_out : ∀ i, (∀ k, k < n → i ≠ 24 + 28 * k) → a i = F i := fun i hi => by rw [ha]; exact sp_h1_out F n i hi
  have a_in : ∀ k, k < n → a (24 + 28 * k) = if F (21 + 28 * k) = 1 then F (24 + 28 * k) + ya_sum (fun s => 9 - F (41 + 28 * k + s)) (ya_se F k) else F (24 + 28 * k) := fun k hk => by rw [ha]; exact sp_h1_in F n k hk
  have afr : ∀ k, k < n → ya_fr a k := fun k hk => (fr k hk).cg (a_out _ (fun q hq => by omega))
  have b_out : ∀ i, (∀ k, k < n → i < 41 + 28 * k ∨ 48 + 28 * k ≤ i) → b i = a i := fun i hi => by rw [hb]; exact sp_h2_out a n i afr hi
  have b_in : ∀ k j, k < n → j < 8 → b (41 + 28 * k + j) = if a (21 + 28 * k) = 1 ∧ a 1 % 6 = 0 ∧ j < ya_se a k then max 0 (a (41 + 28 * k + j) - 1) else a (41 + 28 * k + j) := fun k j hk hj => by rw [hb]; exact sp_h2_in a n k j afr hk hj
  have bfr : ∀ k, k < n → ya_fr b k := fun k hk => (afr k hk).cg (b_out _ (fun q hq => by omega))
  obtain ⟨s1, s2⟩ := sp_h3_in (B := b) n bfr
  have eH : sp_hour f = sp_h3 b n := by unfold sp_hour sp_hourB sp_hourA; rw [hN, ← hF, ← ha, ← hb]
  have bF : ∀ i, (∀ k, k < n → i ≠ 24 + 28 * k) → (∀ k, k < n → i < 41 + 28 * k ∨ 48 + 28 * k ≤ i) → b i = F i := fun i h1 h2 => by rw [b_out i h2, a_out i h1]
  have b24 : ∀ k, k < n → b (24 + 28 * k) = a (24 + 28 * k) := fun k hk => b_out _ (fun q hq => by omega)
  have b21 : ∀ k, k < n → b (21 + 28 * k) = F (21 + 28 * k) := fun k hk => bF _ (fun q hq => by omega) (fun q hq => by omega)
  have bwd : ∀ k, k < n → ya_wd b k = ya_wd F k := fun k hk => ya_wd_eq (fr k hk) (bF _ (fun q hq => by omega) (fun q hq => by omega)) (fun i h1 h2 => bF i (fun q hq => by omega) (fun q hq => by omega))
  have bwt : ∀ k, k < n → ya_wt b k = ya_dry F k + a (24 + 28 * k) := fun k hk => by
    unfold ya_wt
    rw [ya_dry_eq (fr k hk) (bF _ (fun q hq => by omega) (fun q hq => by omega)) (bF _ (fun q hq => by omega) (fun q hq => by omega)) (fun i h1 h2 => bF i (fun q hq => by omega) (fun q hq => by omega)), b24 k hk]
  have sink : ∀ k, k < n → (b (21 + 28 * k) = 1 ∧ ya_dr (ya_wd b k) (ya_wt b k) = -1 ↔ F (21 + 28 * k) = 1 ∧ ¬ ya_wt (cp_g F k (f 1 + 1)) k ≤ ya_wd (cp_g F k (f 1 + 1)) k * 40 / 2) := fun k hk => by
    rw [b21 k hk, (cp_g_wt (fr k hk)).1, (cp_g_wt (fr k hk)).2, bwd k hk, bwt k hk, ya_dr_no (wd0 k hk)]
    by_cases c : F (21 + 28 * k) = 1
    · rw [a_in k hk, if_pos c]
    · exact ⟨fun z => absurd z.1 c, fun z => absurd z.1 c⟩
  rw [eH, hN, ← hF]
  refine Prod.ext ?_ ?_
  · funext i
    by_cases ci : ∃ k, k < n ∧ 21 + 28 * k ≤ i ∧ i < 49 + 28 * k
    · obtain ⟨k, hk, h1, h2⟩ := ci
      rw [p2 k hk i h1 h2]
      have se7 := (fr k hk).se
      by_cases c21 : i = 21 + 28 * k
      · subst c21
        rw [s1 k hk, b21 k hk]
        unfold cp_h
        have g21 : cp_g F k (f 1 + 1) (21 + 28 * k) = F (21 + 28 * k) := cp_s_out _ _ _ _ _ (by omega) (by omega)
        by_cases c : F (21 + 28 * k) = 1
        · rw [if_pos c]
          by_cases c2 : ya_wt (cp_g F k (f 1 + 1)) k ≤ ya_wd (cp_g F k (f 1 + 1)) k * 40 / 2
          · have nc := fun z => ((sink k hk).mp z).2 c2
            rw [b21 k hk] at nc
            rw [if_pos c2, if_neg nc, g21]
          · have yc := (sink k hk).mpr ⟨c, c2⟩
            rw [b21 k hk] at yc
            rw [if_neg c2, if_pos yc, va_upS]
        · rw [if_neg c, if_neg (fun z => c z.1)]
      · have e3 : (sp_h3 b n).1 i = b i := sp_h3_out b n i (fun q hq => by omega)
        rw [e3]
        have eh : cp_h F k (f 1 + 1) i = if F (21 + 28 * k) = 1 then cp_g F k (f 1 + 1) i else F i := by
          unfold cp_h
          by_cases c : F (21 + 28 * k) = 1
          · rw [if_pos c, if_pos c]
            split
            · rfl
            · exact va_upN _ _ c21
          · rw [if_neg c, if_neg c]
        rw [eh]
        by_cases c24 : i = 24 + 28 * k
        · subst c24
          rw [b24 k hk, a_in k hk]
          unfold cp_g
          rw [cp_s_24]
        · by_cases c41 : 41 + 28 * k ≤ i
          · obtain ⟨j, rfl⟩ : ∃ j, i = 41 + 28 * k + j := ⟨i - (41 + 28 * k), by omega⟩
            have hj : j < 8 := by omega
            rw [b_in k j hk hj, a_out _ (fun q hq => by omega), a_out _ (fun q hq => by omega), a_out _ (fun q hq => by omega), F1, ya_se_cg (a_out _ (fun q hq => by omega))]
            have c0 := cau k j hk hj
            unfold cp_g
            by_cases c : F (21 + 28 * k) = 1
            · rw [if_pos c]
              by_cases c2 : j < ya_se F k
              · rw [cp_s_41 _ _ _ _ _ c2]
                by_cases c3 : (f 1 + 1) % 6 = 0
                · by_cases c4 : 0 < F (41 + 28 * k + j)
                  · rw [if_pos ⟨c3, c4⟩, if_pos ⟨c, c3, c2⟩]; omega
                  · rw [if_neg (fun z => c4 z.2), if_pos ⟨c, c3, c2⟩]; omega
                · rw [if_neg (fun z => c3 z.1), if_neg (fun z => c3 z.2.1)]; omega
              · rw [if_neg (fun z => c2 z.2.2), cp_s_out _ _ _ _ _ (by omega) (by omega)]
            · rw [if_neg c, if_neg (fun z => c z.1)]
          · rw [bF i (fun q hq => by omega) (fun q hq => by omega)]
            unfold cp_g
            rw [cp_s_out _ _ _ _ _ c24 (by omega)]
            split <;> rfl
    · have ci' : ∀ k, k < n → i < 21 + 28 * k ∨ 49 + 28 * k ≤ i := fun k hk => by
        by_cases q : 21 + 28 * k ≤ i ∧ i < 49 + 28 * k
        · exact absurd ⟨k, hk, q⟩ ci
        · omega
      rw [p1 i ci', sp_h3_out b n i (fun q hq => by have := ci' q hq; omega), bF i (fun q hq => by have := ci' q hq; omega) (fun q hq => by have := ci' q hq; omega)]
  · rw [p3, s2]
    refine ya_sum_eq n (fun k hk => ?_)
    unfold cp_r
    by_cases c : F (21 + 28 * k) = 1 ∧ ¬ ya_wt (cp_g F k (f 1 + 1)) k ≤ ya_wd (cp_g F k (f 1 + 1)) k * 40 / 2
    · rw [if_pos c, if_pos ((sink k hk).mpr c)]
    · rw [if_neg c, if_neg (fun z => c ((sink k hk).mp z))]
