set_option maxRecDepth 100000
theorem ya_drF_spec (wide w : Int) : ∀ (n d : Nat), (ya_drF wide w d n = -1 ∧ ∀ j : Nat, d ≤ j → j < d + n → ¬ w ≤ wide * j / 2) ∨ ∃ j : Nat, ya_drF wide w d n = j ∧ d ≤ j ∧ j < d + n ∧ w ≤ wide * j / 2 ∧ ∀ i : Nat, d ≤ i → i < j → ¬ w ≤ wide * i / 2
  | 0, d => Or.inl ⟨rfl, fun j h1 h2 => by omega⟩
  | n + 1, d => by
    unfold ya_drF
    by_cases c : w ≤ wide * d / 2
    · rw [if_pos c]
      exact Or.inr ⟨d, rfl, Nat.le_refl _, by omega, c, fun i h1 h2 => by omega⟩
    · rw [if_neg c]
      rcases ya_drF_spec wide w n (d + 1) with ⟨h1, h2⟩ | ⟨j, h1, h2, h3, h4, h5⟩
      · refine Or.inl ⟨h1, fun j a b => ?_⟩
        by_cases e : j = d
        · subst e; exact c
        · exact h2 j (by omega) (by omega)
      · refine Or.inr ⟨j, h1, by omega, by omega, h4, fun i a b => ?_⟩
        by_cases e : i = d
        · subst e; exact c
        · exact h5 i (by omega) b
theorem ya_fl_mono {wide : Int} (h : 0 ≤ wide) {a b : Nat} (hab : a ≤ b) : wide * (a : Int) / 2 ≤ wide * (b : Int) / 2 := by
  have h1 : wide * (a : Int) ≤ wide * (b : Int) := Int.mul_le_mul_of_nonneg_left (by omega) h
  omega
/-- common stretches by a table: row r, place j -/
def dp_e (f : Nat → Int) (a b : Nat) : Nat → Nat → Int
  | 0, _ => 0
  | _ + 1, 0 => 0
  | r + 1, j + 1 => if ya_mi f a r b j = 1 then dp_e f a b r j + 1 else 0
def dp_in (f : Nat → Int) (a b : Nat) (s : Int) (r : Nat) : Nat → Int
  | 0 => s
  | i + 1 => max (dp_in f a b s r i) (dp_e f a b (r + 1) (ya_n f b - i))
def dp_L (f : Nat → Int) (a b : Nat) : Nat → Int
  | 0 => 0
  | r + 1 => dp_in f a b (dp_L f a b r) r (ya_n f b)
theorem dp_e_rg (f : Nat → Int) (a b : Nat) : ∀ (r j : Nat), 0 ≤ dp_e f a b r j ∧ dp_e f a b r j ≤ r
  | 0, _ => by simp [dp_e]
  | r + 1, 0 => by simp [dp_e]; omega
  | r + 1, j + 1 => by
    have := dp_e_rg f a b r j
    unfold dp_e
    split <;> omega
theorem dp_in_s (f : Nat → Int) (a b : Nat) (s : Int) (r i : Nat) : dp_in f a b s r (i + 1) = max (dp_in f a b s r i) (dp_e f a b (r + 1) (ya_n f b - i)) := rfl
theorem dp_in_rg (f : Nat → Int) (a b : Nat) (s : Int) (r : Nat) (hs : 0 ≤ s ∧ s ≤ 100) (hr : r < 100) : ∀ i, 0 ≤ dp_in f a b s r i ∧ dp_in f a b s r i ≤ 100
  | 0 => hs
  | i + 1 => by
    have h1 := dp_in_rg f a b s r hs hr i
    have h2 := dp_e_rg f a b (r + 1) (ya_n f b - i)
    unfold dp_in
    omega
theorem dp_L_rg (f : Nat → Int) (a b : Nat) : ∀ r, r ≤ 100 → 0 ≤ dp_L f a b r ∧ dp_L f a b r ≤ 100
  | 0, _ => by simp [dp_L]
  | r + 1, h => by
    unfold dp_L
    exact dp_in_rg f a b _ r (dp_L_rg f a b r (by omega)) (by omega) _
theorem hu_rule (f : Nat → Int) (a b : Nat) : ∀ (m i j : Nat), ya_ru f a b i j m ≤ m
  | 0, _, _ => Nat.le_refl _
  | m + 1, i, j => by
    unfold ya_ru
    have := hu_rule f a b m (i + 1) (j + 1)
    split <;> omega
theorem hu_mxrg {s : Int} {g : Nat → Int} (hs : 0 ≤ s ∧ s ≤ 100) (hg : ∀ j, 0 ≤ g j ∧ g j ≤ 100) : ∀ n, 0 ≤ ya_mx s g n ∧ ya_mx s g n ≤ 100
  | 0 => hs
  | n + 1 => by
    have h1 := hu_mxrg hs hg n
    have h2 := hg n
    unfold ya_mx
    omega
theorem hu_csrg (f : Nat → Int) (a b : Nat) (hn : ya_n f a ≤ 100) : ∀ i, 0 ≤ ya_cs f a b i ∧ ya_cs f a b i ≤ 100
  | 0 => by simp [ya_cs]
  | i + 1 => by
    unfold ya_cs
    refine hu_mxrg (hu_csrg f a b hn i) (fun j => ?_) _
    have := hu_rule f a b (ya_n f a - i) i j
    omega
section HULL2
variable {G : pb_G} {K : co_K} {h : pb_H} {B B' : Nat → Nat} {k k' : Nat} {f : Nat → Int}
theorem hu_halving (hG : co_G G K) (hW : hu_W K h B k f) (ok : hu_ok f k) : pb_Ctr G mX6_draughtByHalving 6 42 84 [pb_r (B 0)] h (fr_Q (some (pb_i (ya_dr (ya_wd f k) (ya_wt f k)))) h) := by
  have hwd : 0 ≤ ya_wd f k := (ok.wd (ya_se f k) (by have := ok.nn; unfold ya_se; omega)).1
  refine pb_Ctr.of rfl rfl rfl tX6_draughtByHalving_ok rfl ?_
  (try refine pb_Ex.run rfl ?_)
  refine pb_Ex.rV rfl rfl rfl rfl (hW.1) rfl rfl (hu_canFloat hG hW ok) (by omega) (by omega) (by omega) (fun h1 hx1 => ?_)
  (try refine pb_Ex.run rfl ?_)
  have spec := ya_drF_spec (ya_wd f k) (ya_wt f k) 41 0
  by_cases c : ya_wt f k ≤ ya_wd f k * 40 / 2
  · rw [if_pos c]
    refine pb_Ex.ifT rfl (by omega) (by first | decide | (simp only [pb_cmp]; omega) | simp [pb_cmp]) ?_
    (try refine pb_Ex.run rfl ?_)
    rcases spec with ⟨s1, s2⟩ | ⟨dr, s1, s2, s3, s4, s5⟩
    · exact absurd c (s2 40 (by omega) (by omega))
    · have loop : ∀ (w le mo : Nat) (h2 : pb_H) (c0 u0 : Nat) (y : Option pb_V), le ≤ dr → dr ≤ mo → mo ≤ 40 → mo - le ≤ w → fr_x h h2 → c0 + w ≤ 42 → u0 + 2 * w ≤ 84 → pb_Ex G mX6_draughtByHalving 6 42 84 (fr_Q (some (pb_i (ya_dr (ya_wd f k) (ya_wt f k)))) h) c0 u0 14 [some (pb_r (B 0)), some (pb_i le), some (pb_i mo), y] [] h2 := by
        intro w
        induction w with
        | zero =>
          intro le mo h2 c0 u0 y a1 a2 a3 a4 hx a5 a6
          refine pb_Ex.run rfl ?_
          refine pb_Ex.icmpT rfl (by omega) (by omega) (by first | decide | (simp only [pb_cmp]; omega) | simp [pb_cmp]) ?_
          (try refine pb_Ex.run rfl ?_)
          have e : ya_dr (ya_wd f k) (ya_wt f k) = le := by
            show ya_drF (ya_wd f k) (ya_wt f k) 0 41 = le
            rw [s1]; omega
          rw [e]
          refine pb_Ex.iret rfl rfl (by omega) (by omega) (⟨rfl, hx⟩)
        | succ w ih =>
          intro le mo h2 c0 u0 y a1 a2 a3 a4 hx a5 a6
          refine pb_Ex.run rfl ?_
          refine pb_Ex.icmp_ge rfl (by omega) (by omega) (fun c2 => ?_) (fun c2 => ?_)
          · refine pb_Ex.run rfl ?_
            have e : ya_dr (ya_wd f k) (ya_wt f k) = le := by
              show ya_drF (ya_wd f k) (ya_wt f k) 0 41 = le
              rw [s1]; omega
            rw [e]
            refine pb_Ex.iret rfl rfl (by omega) (by omega) (⟨rfl, hx⟩)
          · refine pb_Ex.run rfl ?_
            refine pb_Ex.idiv rfl (by omega) (by omega) ?_
            have e2 : ((le : Int) + mo) / 2 = (((le + mo) / 2 : Nat) : Int) := by omega
            rw [e2]
            refine pb_Ex.run rfl ?_
            refine pb_Ex.rV rfl rfl rfl rfl ((hx.at hW.1)) rfl rfl (hu_floatsAt hG (hW.x hx) ok ((le + mo) / 2) (by omega)) (by omega) (by omega) (by omega) (fun h3 hx3 => ?_)
            (try refine pb_Ex.run rfl ?_)
            by_cases c3 : ya_wt f k ≤ ya_wd f k * (((le + mo) / 2 : Nat) : Int) / 2
            · rw [if_pos c3]
              refine pb_Ex.ifF rfl (by omega) (by first | decide | (simp only [pb_cmp]; omega) | simp [pb_cmp]) ?_
              (try refine pb_Ex.run rfl ?_)
              refine ih le ((le + mo) / 2) h3 _ _ _ a1 ?_ (by omega) (by omega) (hx.tr hx3) (by omega) (by omega)
              exact Nat.not_lt.mp fun q => s5 _ (Nat.zero_le _) q c3
            · rw [if_neg c3]
              refine pb_Ex.ifT rfl (by omega) (by first | decide | (simp only [pb_cmp]; omega) | simp [pb_cmp]) ?_
              (try refine pb_Ex.run rfl ?_)
              refine ih ((le + mo) / 2 + 1) mo h3 _ _ _ ?_ a2 a3 (by omega) (hx.tr hx3) (by omega) (by omega)
              refine Nat.succ_le_of_lt (Nat.not_le.mp fun q => c3 (Int.le_trans s4 (ya_fl_mono hwd q)))
      exact loop 40 0 40 h1 _ _ none (Nat.zero_le _) (by omega) (Nat.le_refl _) (Nat.le_refl _) hx1 (by omega) (by omega)
  · rw [if_neg c]
    refine pb_Ex.ifF rfl (by omega) (by first | decide | (simp only [pb_cmp]; omega) | simp [pb_cmp]) ?_
    (try refine pb_Ex.run rfl ?_)
    have e : ya_dr (ya_wd f k) (ya_wt f k) = -1 := by
      show ya_drF (ya_wd f k) (ya_wt f k) 0 41 = -1
      rcases spec with ⟨s1, s2⟩ | ⟨dr, s1, s2, s3, s4, s5⟩
      · exact s1
      · exact absurd (Int.le_trans s4 (ya_fl_mono (b := 40) hwd (by omega))) c
    rw [e]
    refine pb_Ex.iret rfl rfl (by omega) (by omega) (⟨rfl, hx1⟩)
theorem hu_refl (hW : hu_W K h B k f) (hW2 : hu_W K h B' k' f) (ok : hu_ok f k) (ok2 : hu_ok f k') : pb_Ctr G mX6_isReflectionOf 3 0 0 [pb_r (B 0), pb_r (B' 0)] h (pb_P (some (pb_i (ya_re f k k'))) h) := by
  have hn := ok.nn
  have hn2 := ok2.nn
  have hW' := hW
  have hW2' := hW2
  obtain ⟨l1, ⟨g, l2, l3⟩, -⟩ := hW
  obtain ⟨mc, ho⟩ := l2.obj
  obtain ⟨l1', ⟨g', l2', l3'⟩, -⟩ := hW2
  obtain ⟨mc', ho'⟩ := l2'.obj
  refine pb_Ctr.of rfl rfl rfl tX6_isReflectionOf_ok rfl ?_
  (try refine pb_Ex.run rfl ?_)
  refine pb_Ex.pV rfl rfl rfl rfl (l1) rfl rfl (hu_size hW') (by omega) (by omega) (by omega) ?_
  (try refine pb_Ex.run rfl ?_)
  refine pb_Ex.pV rfl rfl rfl rfl (l1') rfl rfl (hu_size hW2') (by omega) (by omega) (by omega) ?_
  (try refine pb_Ex.run rfl ?_)
  unfold ya_re
  refine pb_Ex.icmp_eq rfl (by omega) (by omega) (fun c => ?_) (fun c => ?_)
  · rw [if_pos (by omega)]
    refine pb_Ex.run rfl ?_
    have loop : ∀ (d j : Nat) (z : Int), j + d = ya_n f k → z = j → pb_Ex G mX6_isReflectionOf 3 0 0 (pb_P (some (pb_i (ya_reF f k k' j d))) h) 0 0 15 [some (pb_r (B 0)), some (pb_r (B' 0)), some (pb_i z)] [] h := by
      intro d
      induction d with
      | zero =>
        intro j z hj hz
        refine pb_Ex.run rfl ?_
        refine pb_Ex.pV rfl rfl rfl rfl (l1) rfl rfl (hu_size hW') (by omega) (by omega) (by omega) ?_
        (try refine pb_Ex.run rfl ?_)
        refine pb_Ex.icmpT rfl (by omega) (by omega) (by first | decide | (simp only [pb_cmp]; omega) | simp [pb_cmp]) ?_
        (try refine pb_Ex.run rfl ?_)
        refine pb_Ex.zret (ty := .boolean) rfl rfl (pb_nb (Or.inr rfl)).1 (by omega) (by omega) (⟨rfl, rfl⟩)
      | succ d ih =>
        intro j z hj hz
        subst hz
        have hw := ok.wid (j := j) (by omega)
        have hw2 := ok2.wid (j := j) (by omega)
        refine pb_Ex.run rfl ?_
        refine pb_Ex.pV rfl rfl rfl rfl (l1) rfl rfl (hu_size hW') (by omega) (by omega) (by omega) ?_
        (try refine pb_Ex.run rfl ?_)
        refine pb_Ex.icmpF rfl (by omega) (by omega) (by first | decide | (simp only [pb_cmp]; omega) | simp [pb_cmp]) ?_
        (try refine pb_Ex.run rfl ?_)
        refine pb_Ex.getf rfl rfl l1 rfl ?_
        (try refine pb_Ex.run rfl ?_)
        refine pb_Ex.pV rfl rfl rfl rfl (ho) rfl rfl (ja_get l2 j (by omega)) (by omega) (by omega) (by omega) ?_
        (try refine pb_Ex.run rfl ?_)
        refine pb_Ex.cast0 rfl rfl (l3 j (by omega)) (fun r hr => by cases hr; rfl) ?_
        (try refine pb_Ex.run rfl ?_)
        refine pb_Ex.getf rfl rfl l1' rfl ?_
        (try refine pb_Ex.run rfl ?_)
        refine pb_Ex.pV rfl rfl rfl rfl (ho') rfl rfl (ja_get l2' j (by omega)) (by omega) (by omega) (by omega) ?_
        (try refine pb_Ex.run rfl ?_)
        refine pb_Ex.cast0 rfl rfl (l3' j (by omega)) (fun r hr => by cases hr; rfl) ?_
        (try refine pb_Ex.run rfl ?_)
        refine pb_Ex.pV rfl rfl rfl rfl (l3 j (by omega)) rfl rfl (fm_isMirrorOf (l3 j (by omega)) (l3' j (by omega)) (by omega) (by omega) (by omega) (by omega)) (by omega) (by omega) (by omega) ?_
        (try refine pb_Ex.run rfl ?_)
        unfold ya_reF ya_mi
        by_cases c2 : f (25 + 28 * k + 2 * j + 0) = f (25 + 28 * k' + 2 * j + 1) ∧ f (25 + 28 * k + 2 * j + 1) = f (25 + 28 * k' + 2 * j + 0)
        · rw [if_pos c2, if_pos rfl]
          refine pb_Ex.ifT rfl (by omega) (by first | decide | (simp only [pb_cmp]; omega) | simp [pb_cmp]) ?_
          (try refine pb_Ex.run rfl ?_)
          exact ih (j + 1) _ (by omega) (by omega)
        · rw [if_neg c2, if_neg (by omega)]
          refine pb_Ex.ifF rfl (by omega) (by first | decide | (simp only [pb_cmp]; omega) | simp [pb_cmp]) ?_
          (try refine pb_Ex.run rfl ?_)
          refine pb_Ex.zret (ty := .boolean) rfl rfl (pb_nb (Or.inl rfl)).1 (by omega) (by omega) (⟨rfl, rfl⟩)
    exact loop (ya_n f k) 0 0 (by omega) rfl
  · rw [if_neg (by omega)]
    refine pb_Ex.run rfl ?_
    refine pb_Ex.zret (ty := .boolean) rfl rfl (pb_nb (Or.inl rfl)).1 (by omega) (by omega) (⟨rfl, rfl⟩)
theorem hu_stretch (hW : hu_W K h B k f) (hW2 : hu_W K h B' k' f) (ok : hu_ok f k) (ok2 : hu_ok f k') (i j : Nat) (hi : i ≤ 8) (hj : j ≤ 8) : pb_Ctr G mX6_stretch 3 0 0 [pb_r (B 0), pb_i i, pb_r (B' 0), pb_i j] h (pb_P (some (pb_i (ya_ru f k k' i j (ya_n f k - i)))) h) := by
  have hn := ok.nn
  have hn2 := ok2.nn
  have hW' := hW
  have hW2' := hW2
  obtain ⟨l1, ⟨g, l2, l3⟩, -⟩ := hW
  obtain ⟨mc, ho⟩ := l2.obj
  obtain ⟨l1', ⟨g', l2', l3'⟩, -⟩ := hW2
  obtain ⟨mc', ho'⟩ := l2'.obj
  refine pb_Ctr.of rfl rfl rfl tX6_stretch_ok rfl ?_
  (try refine pb_Ex.run rfl ?_)
  have loop : ∀ (d l : Nat) (z : Int), ya_n f k - (i + l) = d → l ≤ 8 → z = l → pb_Ex G mX6_stretch 3 0 0 (pb_P (some (pb_i (l + ya_ru f k k' (i + l) (j + l) d : Nat))) h) 0 0 3 [some (pb_r (B 0)), some (pb_i i), some (pb_r (B' 0)), some (pb_i j), some (pb_i z)] [] h := by
    intro d
    induction d with
    | zero =>
      intro l z hd hl hz
      subst hz
      refine pb_Ex.run rfl ?_
      refine pb_Ex.pV rfl rfl rfl rfl (l1) rfl rfl (hu_size hW') (by omega) (by omega) (by omega) ?_
      (try refine pb_Ex.run rfl ?_)
      refine pb_Ex.icmpT rfl (by omega) (by omega) (by first | decide | (simp only [pb_cmp]; omega) | simp [pb_cmp]) ?_
      (try refine pb_Ex.run rfl ?_)
      refine pb_Ex.iret rfl rfl (by omega) (by omega) (⟨rfl, rfl⟩)
    | succ d ih =>
      intro l z hd hl hz
      subst hz
      unfold ya_ru
      refine pb_Ex.run rfl ?_
      refine pb_Ex.pV rfl rfl rfl rfl (l1) rfl rfl (hu_size hW') (by omega) (by omega) (by omega) ?_
      (try refine pb_Ex.run rfl ?_)
      refine pb_Ex.icmpF rfl (by omega) (by omega) (by first | decide | (simp only [pb_cmp]; omega) | simp [pb_cmp]) ?_
      (try refine pb_Ex.run rfl ?_)
      refine pb_Ex.pV rfl rfl rfl rfl (l1') rfl rfl (hu_size hW2') (by omega) (by omega) (by omega) ?_
      (try refine pb_Ex.run rfl ?_)
      by_cases c : j + l < ya_n f k'
      · refine pb_Ex.icmpF rfl (by omega) (by omega) (by first | decide | (simp only [pb_cmp]; omega) | simp [pb_cmp]) ?_
        (try refine pb_Ex.run rfl ?_)
        have hw := ok.wid (j := i + l) (by omega)
        have hw2 := ok2.wid (j := j + l) (by omega)
        refine pb_Ex.getf rfl rfl l1 rfl ?_
        (try refine pb_Ex.run rfl ?_)
        have e1 : (i : Int) + l = ((i + l : Nat) : Int) := by omega
        rw [e1]
        refine pb_Ex.pV rfl rfl rfl rfl (ho) rfl rfl (ja_get l2 (i + l) (by omega)) (by omega) (by omega) (by omega) ?_
        (try refine pb_Ex.run rfl ?_)
        refine pb_Ex.cast0 rfl rfl (l3 (i + l) (by omega)) (fun r hr => by cases hr; rfl) ?_
        (try refine pb_Ex.run rfl ?_)
        refine pb_Ex.getf rfl rfl l1' rfl ?_
        (try refine pb_Ex.run rfl ?_)
        have e2 : (j : Int) + l = ((j + l : Nat) : Int) := by omega
        rw [e2]
        refine pb_Ex.pV rfl rfl rfl rfl (ho') rfl rfl (ja_get l2' (j + l) (by omega)) (by omega) (by omega) (by omega) ?_
        (try refine pb_Ex.run rfl ?_)
        refine pb_Ex.cast0 rfl rfl (l3' (j + l) (by omega)) (fun r hr => by cases hr; rfl) ?_
        (try refine pb_Ex.run rfl ?_)
        refine pb_Ex.pV rfl rfl rfl rfl (l3 (i + l) (by omega)) rfl rfl (fm_isMirrorOf (l3 (i + l) (by omega)) (l3' (j + l) (by omega)) (by omega) (by omega) (by omega) (by omega)) (by omega) (by omega) (by omega) ?_
        (try refine pb_Ex.run rfl ?_)
        unfold ya_mi
        by_cases c2 : f (25 + 28 * k + 2 * (i + l) + 0) = f (25 + 28 * k' + 2 * (j + l) + 1) ∧ f (25 + 28 * k + 2 * (i + l) + 1) = f (25 + 28 * k' + 2 * (j + l) + 0)
        · rw [if_pos c2, if_pos ⟨c, rfl⟩]
          refine pb_Ex.ifF rfl (by omega) (by first | decide | (simp only [pb_cmp]; omega) | simp [pb_cmp]) ?_
          (try refine pb_Ex.run rfl ?_)
          have := ih (l + 1) ((l : Int) + 1) (by omega) (by omega) (by omega)
          rw [show l + (1 + ya_ru f k k' (i + l + 1) (j + l + 1) d) = l + 1 + ya_ru f k k' (i + (l + 1)) (j + (l + 1)) d by rw [← Nat.add_assoc i, ← Nat.add_assoc j]; omega]
          exact this
        · rw [if_neg c2, if_neg (by omega)]
          refine pb_Ex.ifT rfl (by omega) (by first | decide | (simp only [pb_cmp]; omega) | simp [pb_cmp]) ?_
          (try refine pb_Ex.run rfl ?_)
          refine pb_Ex.iret rfl rfl (by omega) (by omega) (⟨rfl, rfl⟩)
      · rw [if_neg (by omega)]
        refine pb_Ex.icmpT rfl (by omega) (by omega) (by first | decide | (simp only [pb_cmp]; omega) | simp [pb_cmp]) ?_
        (try refine pb_Ex.run rfl ?_)
        refine pb_Ex.iret rfl rfl (by omega) (by omega) (⟨rfl, rfl⟩)
  have := loop (ya_n f k - i) 0 0 (by omega) (by omega) rfl
  rw [Nat.zero_add] at this
  exact this
theorem hu_trying (hW : hu_W K h B k f) (hW2 : hu_W K h B' k' f) (ok : hu_ok f k) (ok2 : hu_ok f k') : pb_Ctr G mX6_commonStretchByTrying 4 0 0 [pb_r (B 0), pb_r (B' 0)] h (pb_P (some (pb_i (ya_cs f k k' (ya_n f k)))) h) := by
  have hn := ok.nn
  have hn2 := ok2.nn
  refine pb_Ctr.of rfl rfl rfl tX6_commonStretchByTrying_ok rfl ?_
  (try refine pb_Ex.run rfl ?_)
  have outer : ∀ (d i : Nat) (z : Int) (y : Option pb_V), i + d = ya_n f k → z = i → pb_Ex G mX6_commonStretchByTrying 4 0 0 (pb_P (some (pb_i (ya_cs f k k' (ya_n f k)))) h) 0 0 4 [some (pb_r (B 0)), some (pb_r (B' 0)), some (pb_i (ya_cs f k k' i)), some (pb_i z), y] [] h := by
    intro d
    induction d with
    | zero =>
      intro i z y hi hz
      have e : i = ya_n f k := by omega
      subst e
      refine pb_Ex.run rfl ?_
      refine pb_Ex.pV rfl rfl rfl rfl (hW.1) rfl rfl (hu_size hW) (by omega) (by omega) (by omega) ?_
      (try refine pb_Ex.run rfl ?_)
      refine pb_Ex.icmpT rfl (by omega) (by omega) (by first | decide | (simp only [pb_cmp]; omega) | simp [pb_cmp]) ?_
      (try refine pb_Ex.run rfl ?_)
      refine pb_Ex.iret rfl rfl (by omega) (by omega) (⟨rfl, rfl⟩)
    | succ d ih =>
      intro i z y hi hz
      subst hz
      refine pb_Ex.run rfl ?_
      refine pb_Ex.pV rfl rfl rfl rfl (hW.1) rfl rfl (hu_size hW) (by omega) (by omega) (by omega) ?_
      (try refine pb_Ex.run rfl ?_)
      refine pb_Ex.icmpF rfl (by omega) (by omega) (by first | decide | (simp only [pb_cmp]; omega) | simp [pb_cmp]) ?_
      (try refine pb_Ex.run rfl ?_)
      have inner : ∀ (d2 j : Nat) (z : Int), j + d2 = ya_n f k' → z = j → pb_Ex G mX6_commonStretchByTrying 4 0 0 (pb_P (some (pb_i (ya_cs f k k' (ya_n f k)))) h) 0 0 15 [some (pb_r (B 0)), some (pb_r (B' 0)), some (pb_i (ya_mx (ya_cs f k k' i) (fun j => ya_ru f k k' i j (ya_n f k - i)) j)), some (pb_i i), some (pb_i z)] [] h := by
        intro d2
        induction d2 with
        | zero =>
          intro j z hj hz
          have e : j = ya_n f k' := by omega
          subst e
          refine pb_Ex.run rfl ?_
          refine pb_Ex.pV rfl rfl rfl rfl (hW2.1) rfl rfl (hu_size hW2) (by omega) (by omega) (by omega) ?_
          (try refine pb_Ex.run rfl ?_)
          refine pb_Ex.icmpT rfl (by omega) (by omega) (by first | decide | (simp only [pb_cmp]; omega) | simp [pb_cmp]) ?_
          (try refine pb_Ex.run rfl ?_)
          exact ih (i + 1) _ _ (by omega) (by omega)
        | succ d2 ih2 =>
          intro j z hj hz
          subst hz
          have hr := hu_rule f k k' (ya_n f k - i) i j
          have hm := hu_mxrg (g := fun j => (ya_ru f k k' i j (ya_n f k - i) : Int)) (hu_csrg f k k' (by omega) i) (fun j => by have := hu_rule f k k' (ya_n f k - i) i j; omega) j
          refine pb_Ex.run rfl ?_
          refine pb_Ex.pV rfl rfl rfl rfl (hW2.1) rfl rfl (hu_size hW2) (by omega) (by omega) (by omega) ?_
          (try refine pb_Ex.run rfl ?_)
          refine pb_Ex.icmpF rfl (by omega) (by omega) (by first | decide | (simp only [pb_cmp]; omega) | simp [pb_cmp]) ?_
          (try refine pb_Ex.run rfl ?_)
          refine pb_Ex.pV rfl rfl rfl rfl (hW.1) rfl rfl (hu_stretch hW hW2 ok ok2 i j (by omega) (by omega)) (by omega) (by omega) (by omega) ?_
          (try refine pb_Ex.run rfl ?_)
          refine pb_Ex.mmax rfl rfl (by omega) (by omega) rfl (by omega) (by omega) (by omega) ?_
          (try refine pb_Ex.run rfl ?_)
          exact ih2 (j + 1) _ (by omega) (by omega)
      exact inner (ya_n f k') 0 _ (by omega) rfl
  exact outer (ya_n f k) 0 0 none (by omega) rfl
theorem hu_common (hW : hu_W K h B k f) (hW2 : hu_W K h B' k' f) (ok : hu_ok f k) (ok2 : hu_ok f k') : pb_Ctr G mX6_commonStretch 4 1 9 [pb_r (B 0), pb_r (B' 0)] h (fr_Q (some (pb_i (dp_L f k k' (ya_n f k)))) h) := by
  have hn := ok.nn
  have hn2 := ok2.nn
  refine pb_Ctr.of rfl rfl rfl tX6_commonStretch_ok rfl ?_
  (try refine pb_Ex.run rfl ?_)
  refine pb_Ex.fin (fun hf => ?_)
  refine pb_Ex.pV rfl rfl rfl rfl (hW2.1) rfl rfl (hu_size hW2) (by omega) (by omega) (by omega) ?_
  (try refine pb_Ex.run rfl ?_)
  refine pb_Ex.newI (ya_n f k' + 1) rfl (by omega) (by omega) (by omega) (by omega) ?_
  refine pb_Ex.run rfl ?_
  refine pb_Ex.more (k2 := 1) (u2 := 9) (by omega) (by omega) ?_
  have outer : ∀ (d r : Nat) (z : Int) (h1 : pb_H) (g1 : Nat → Int) (y : Option pb_V), r + d = ya_n f k → z = r → fr_x h h1 → h1.2 h.1 = some (pb_aI 0 (ya_n f k' + 1) g1) → (∀ q, q ≤ ya_n f k' → g1 q = dp_e f k k' r q) → pb_Ex G mX6_commonStretch 4 1 9 (fr_Q (some (pb_i (dp_L f k k' (ya_n f k)))) h) 1 9 14 [some (pb_r (B 0)), some (pb_r (B' 0)), some (pb_r h.1), some (pb_i (dp_L f k k' r)), some (pb_i z), y] [] h1 := by
    intro d
    induction d with
    | zero =>
      intro r z h1 g1 y hr hz hx ha hg
      have e : r = ya_n f k := by omega
      subst e
      refine pb_Ex.run rfl ?_
      refine pb_Ex.pV rfl rfl rfl rfl ((hx.at hW.1)) rfl rfl (hu_size (hW.x hx)) (by omega) (by omega) (by omega) ?_
      (try refine pb_Ex.run rfl ?_)
      refine pb_Ex.icmpT rfl (by omega) (by omega) (by first | decide | (simp only [pb_cmp]; omega) | simp [pb_cmp]) ?_
      (try refine pb_Ex.run rfl ?_)
      refine pb_Ex.iret rfl rfl (by omega) (by omega) (⟨rfl, hx⟩)
    | succ d ih =>
      intro r z h1 g1 y hr hz hx ha hg
      subst hz
      refine pb_Ex.run rfl ?_
      refine pb_Ex.pV rfl rfl rfl rfl ((hx.at hW.1)) rfl rfl (hu_size (hW.x hx)) (by omega) (by omega) (by omega) ?_
      (try refine pb_Ex.run rfl ?_)
      refine pb_Ex.icmpF rfl (by omega) (by omega) (by first | decide | (simp only [pb_cmp]; omega) | simp [pb_cmp]) ?_
      (try refine pb_Ex.run rfl ?_)
      refine pb_Ex.pV rfl rfl rfl rfl ((hx.at hW2.1)) rfl rfl (hu_size (hW2.x hx)) (by omega) (by omega) (by omega) ?_
      (try refine pb_Ex.run rfl ?_)
      have hLr := dp_L_rg f k k' r (by omega)
      have inner : ∀ (p : Nat) (z : Int) (h2 : pb_H) (g2 : Nat → Int), p ≤ ya_n f k' → z = p → fr_x h h2 → h2.2 h.1 = some (pb_aI 0 (ya_n f k' + 1) g2) → (∀ q, q ≤ ya_n f k' → g2 q = if p < q then dp_e f k k' (r + 1) q else dp_e f k k' r q) → pb_Ex G mX6_commonStretch 4 1 9 (fr_Q (some (pb_i (dp_L f k k' (ya_n f k)))) h) 1 9 29 [some (pb_r (B 0)), some (pb_r (B' 0)), some (pb_r h.1), some (pb_i (dp_in f k k' (dp_L f k k' r) r (ya_n f k' - p))), some (pb_i r), some (pb_i z)] [] h2 := by
        intro p
        induction p with
        | zero =>
          intro z h2 g2 hp hz hx2 ha2 hg2
          subst hz
          refine pb_Ex.run rfl ?_
          refine pb_Ex.ifT rfl (by omega) (by first | decide | (simp only [pb_cmp]; omega) | simp [pb_cmp]) ?_
          (try refine pb_Ex.run rfl ?_)
          refine ih (r + 1) _ h2 g2 _ (by omega) (by omega) hx2 ha2 (fun q hq => ?_)
          rw [hg2 q hq]
          by_cases c : 0 < q
          · rw [if_pos c]
          · have : q = 0 := by omega
            subst this
            rw [if_neg (by omega)]
            cases r <;> rfl
        | succ p ihp =>
          intro z h2 g2 hp hz hx2 ha2 hg2
          subst hz
          have hw := ok.wid (j := r) (by omega)
          have hw2 := ok2.wid (j := p) (by omega)
          obtain ⟨l1, ⟨g, l2, l3⟩, -⟩ := hW.x hx2
          obtain ⟨mc, ho⟩ := l2.obj
          obtain ⟨l1', ⟨g', l2', l3'⟩, -⟩ := hW2.x hx2
          obtain ⟨mc', ho'⟩ := l2'.obj
          have hin := dp_in_rg f k k' (dp_L f k k' r) r hLr (by omega) (ya_n f k' - (p + 1))
          have hee := dp_e_rg f k k' r p
          have hee2 := dp_e_rg f k k' (r + 1) (p + 1)
          have e1 : ((p + 1 : Nat) : Int) - 1 = (p : Int) := by omega
          refine pb_Ex.run rfl ?_
          refine pb_Ex.ifF rfl (by omega) (by first | decide | (simp only [pb_cmp]; omega) | simp [pb_cmp]) ?_
          (try refine pb_Ex.run rfl ?_)
          refine pb_Ex.getf rfl rfl l1 rfl ?_
          (try refine pb_Ex.run rfl ?_)
          refine pb_Ex.pV rfl rfl rfl rfl (ho) rfl rfl (ja_get l2 r (by omega)) (by omega) (by omega) (by omega) ?_
          (try refine pb_Ex.run rfl ?_)
          refine pb_Ex.cast0 rfl rfl (l3 r (by omega)) (fun r hr => by cases hr; rfl) ?_
          (try refine pb_Ex.run rfl ?_)
          refine pb_Ex.getf rfl rfl l1' rfl ?_
          (try refine pb_Ex.run rfl ?_)
          rw [e1]
          refine pb_Ex.pV rfl rfl rfl rfl (ho') rfl rfl (ja_get l2' p (by omega)) (by omega) (by omega) (by omega) ?_
          (try refine pb_Ex.run rfl ?_)
          refine pb_Ex.cast0 rfl rfl (l3' p (by omega)) (fun r hr => by cases hr; rfl) ?_
          (try refine pb_Ex.run rfl ?_)
          refine pb_Ex.pV rfl rfl rfl rfl (l3 r (by omega)) rfl rfl (fm_isMirrorOf (l3 r (by omega)) (l3' p (by omega)) (by omega) (by omega) (by omega) (by omega)) (by omega) (by omega) (by omega) ?_
          (try refine pb_Ex.run rfl ?_)
          have tail : ∀ v : Int, v = dp_e f k k' (r + 1) (p + 1) → pb_Ex G mX6_commonStretch 4 1 9 (fr_Q (some (pb_i (dp_L f k k' (ya_n f k)))) h) 1 9 81 [some (pb_r (B 0)), some (pb_r (B' 0)), some (pb_r h.1), some (pb_i (dp_in f k k' (dp_L f k k' r) r (ya_n f k' - (p + 1)))), some (pb_i r), some (pb_i (p + 1 : Nat))] [pb_i v, pb_i (p + 1 : Nat), pb_r h.1] h2 := by
            intro v hv
            refine pb_Ex.istat (p + 1) rfl (ha2) (by omega) (by omega) ?_
            (try refine pb_Ex.run rfl ?_)
            refine pb_Ex.iat (p + 1) rfl (pb_set_same) (by omega) (by omega) ?_
            (try refine pb_Ex.run rfl ?_)
            rw [va_upS]
            refine pb_Ex.mmax rfl rfl (by omega) (by omega) rfl (by omega) (by omega) (by omega) ?_
            (try refine pb_Ex.run rfl ?_)
            have e3 : dp_in f k k' (dp_L f k k' r) r (ya_n f k' - p) = max (dp_in f k k' (dp_L f k k' r) r (ya_n f k' - (p + 1))) v := by
              rw [show ya_n f k' - p = (ya_n f k' - (p + 1)) + 1 by omega]
              rw [dp_in_s, show ya_n f k' - (ya_n f k' - (p + 1)) = p + 1 by omega, hv]
            rw [← e3]
            refine ihp _ _ (va_up g2 (p + 1) v) (by omega) (by omega) (fr_x.st hx2 hf _ (Nat.le_refl _)) pb_set_same (fun q hq => ?_)
            by_cases c : q = p + 1
            · subst c
              rw [va_upS, if_pos (by omega), hv]
            · rw [va_upN _ _ c, hg2 q hq]
              by_cases c2 : p + 1 < q
              · rw [if_pos c2, if_pos (by omega)]
              · rw [if_neg c2, if_neg (by omega)]
          have eT : dp_e f k k' (r + 1) (p + 1) = if ya_mi f k r k' p = 1 then dp_e f k k' r p + 1 else 0 := rfl
          unfold ya_mi at eT
          by_cases c2 : f (25 + 28 * k + 2 * r + 0) = f (25 + 28 * k' + 2 * p + 1) ∧ f (25 + 28 * k + 2 * r + 1) = f (25 + 28 * k' + 2 * p + 0)
          · rw [if_pos c2, if_pos rfl] at eT
            rw [if_pos c2]
            refine pb_Ex.ifF rfl (by omega) (by simp [pb_cmp]) ?_
            refine pb_Ex.run rfl ?_
            rw [e1]
            refine pb_Ex.iat (p) rfl (ha2) (by omega) (by omega) ?_
            (try refine pb_Ex.run rfl ?_)
            rw [hg2 p (by omega), if_neg (by omega)]
            exact tail _ eT.symm
          · rw [if_neg c2, if_neg (by omega)] at eT
            rw [if_neg c2]
            refine pb_Ex.ifT rfl (by omega) (by first | decide | (simp only [pb_cmp]; omega) | simp [pb_cmp]) ?_
            refine pb_Ex.run rfl ?_
            exact tail 0 eT.symm
      have := inner (ya_n f k') (ya_n f k') h1 g1 (Nat.le_refl _) rfl hx ha (fun q hq => by rw [if_neg (by omega)]; exact hg q hq)
      rw [Nat.sub_self] at this
      exact this
  exact outer (ya_n f k) 0 0 _ _ none (by omega) rfl (fr_x.nw fr_x.rf hf _) pb_new_same (fun q hq => by cases q <;> rfl)
end HULL2
