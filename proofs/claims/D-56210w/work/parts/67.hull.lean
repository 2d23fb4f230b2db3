set_option maxRecDepth 100000
/-! HULLS: number k, at B 0, its list B 1 with cells B 3, its caulking B 2; the numbers f as the yard has them -/
def hu_W (K : co_K) (h : pb_H) (B : Nat → Nat) (k : Nat) (f : Nat → Int) : Prop :=
  h.2 (B 0) = some (pb_ob 5 [pb_i k, pb_r (B 1), pb_r (B 2), pb_r (co_st K (f (21 + 28 * k)).toNat), pb_i (f (23 + 28 * k)), pb_i (f (24 + 28 * k))]) ∧
  (∃ g, al_W K h (B 1) (B 3) (ya_n f k) g ∧ ∀ j, j < ya_n f k → h.2 (g j) = some (pb_ob 6 [pb_i (f (25 + 28 * k + 2 * j + 0)), pb_i (f (25 + 28 * k + 2 * j + 1))])) ∧
  (∃ c, h.2 (B 2) = some (pb_aI 0 8 c) ∧ ∀ j, j < 8 → c j = if j < ya_se f k then f (41 + 28 * k + j) else 9) ∧ co_D K (B 2)
theorem hu_W.fr {K : co_K} {h h' : pb_H} {B : Nat → Nat} {k : Nat} {f : Nat → Int} {P : Nat → pb_C → Prop} (hW : hu_W K h B k f) (hx : fr_P P h h') (hP : ∀ i, i < 4 → ∀ c, h.2 (B i) = some c → P (B i) c) (h6 : ∀ b fs, h.2 b = some (pb_ob 6 fs) → P b (pb_ob 6 fs)) : hu_W K h' B k f := by
  obtain ⟨k1, ⟨g, k2, k3⟩, ⟨c, k4, k5⟩, k6⟩ := hW
  refine ⟨hx.2 _ _ k1 (hP 0 (by omega) _ k1), ⟨g, k2.fr hx (hP 1 (by omega)) (hP 3 (by omega)) (fun j hj ci fs hg => ?_), fun j hj => hx.2 _ _ (k3 j hj) (h6 _ _ (k3 j hj))⟩, ⟨c, hx.2 _ _ k4 (hP 2 (by omega) _ k4), k5⟩, k6⟩
  have := k3 j hj
  rw [hg] at this
  cases this
  exact h6 _ _ hg
theorem hu_W.x {K : co_K} {h h' : pb_H} {B : Nat → Nat} {k : Nat} {f : Nat → Int} (hW : hu_W K h B k f) (hx : fr_x h h') : hu_W K h' B k f := hW.fr hx (fun _ _ _ _ => trivial) (fun _ _ _ => trivial)
/-- what is asked of a hull's numbers -/
def hu_ok (f : Nat → Int) (k : Nat) : Prop := ya_hok f k ∧ 0 ≤ f 1 ∧ f 1 ≤ 300000
theorem hu_ok.nn {f : Nat → Int} {k : Nat} (h : hu_ok f k) : f (22 + 28 * k) = (ya_n f k : Int) ∧ ya_n f k ≤ 8 := by
  have := h.1.1
  unfold ya_n
  omega
theorem hu_ok.wid {f : Nat → Int} {k j : Nat} (h : hu_ok f k) (hj : j < 8) : 0 ≤ f (25 + 28 * k + 2 * j + 0) ∧ f (25 + 28 * k + 2 * j + 0) ≤ 30 ∧ 0 ≤ f (25 + 28 * k + 2 * j + 1) ∧ f (25 + 28 * k + 2 * j + 1) ≤ 30 := by
  have h1 := h.1.2.1 (2 * j) (by omega)
  have h2 := h.1.2.1 (2 * j + 1) (by omega)
  rw [show 25 + 28 * k + 2 * j + 0 = 25 + 28 * k + 2 * j by omega, show 25 + 28 * k + 2 * j + 1 = 25 + 28 * k + (2 * j + 1) by omega]
  omega
theorem hu_ok.fw {f : Nat → Int} {k j : Nat} (h : hu_ok f k) (hj : j < 8) : 0 ≤ ya_fw f k j ∧ ya_fw f k j ≤ 60 := by
  have := h.wid hj
  unfold ya_fw
  omega
theorem hu_ok.sum {f : Nat → Int} {k : Nat} (h : hu_ok f k) (n : Nat) (hn : n ≤ 8) : 0 ≤ ya_sum (ya_fw f k) n ∧ ya_sum (ya_fw f k) n ≤ 480 := by
  have h3 := ya_sum_le (g := ya_fw f k) (B := 60) n (fun j hj => h.fw (by omega))
  omega
theorem hu_ok.wt {f : Nat → Int} {k : Nat} (h : hu_ok f k) : 0 ≤ ya_wt f k ∧ ya_wt f k ≤ 20000000 := by
  have h1 := h.1.1
  have h2 := h.nn
  have h3 := h.sum (ya_n f k) (by omega)
  have h4 := h.2
  unfold ya_wt ya_dry
  omega
theorem hu_ok.wd {f : Nat → Int} {k : Nat} (h : hu_ok f k) (n : Nat) (hn : n ≤ 7) : 0 ≤ ya_sum (fun j => ya_fw f k j + ya_fw f k (j + 1)) n ∧ ya_sum (fun j => ya_fw f k j + ya_fw f k (j + 1)) n ≤ 840 := by
  have h3 := ya_sum_le (g := fun j => ya_fw f k j + ya_fw f k (j + 1)) (B := 120) n (fun j hj => by
    have a1 := h.fw (j := j) (by omega)
    have a2 := h.fw (j := j + 1) (by omega)
    omega)
  omega
section HULL
variable {G : pb_G} {K : co_K} {h : pb_H} {B B' : Nat → Nat} {k k' : Nat} {f : Nat → Int}
theorem hu_size (hW : hu_W K h B k f) : pb_Ctr G mX6_size 1 0 0 [pb_r (B 0)] h (pb_P (some (pb_i (ya_n f k))) h) := by
  obtain ⟨k1, ⟨g, k2, k3⟩, -⟩ := hW
  obtain ⟨mc, ho⟩ := k2.obj
  refine pb_Ctr.of rfl rfl rfl tX6_size_ok rfl ?_
  (try refine pb_Ex.run rfl ?_)
  refine pb_Ex.getf rfl rfl k1 rfl ?_
  (try refine pb_Ex.run rfl ?_)
  refine pb_Ex.pV rfl rfl rfl rfl (ho) rfl rfl (ja_size k2) (by omega) (by omega) (by omega) ?_
  (try refine pb_Ex.run rfl ?_)
  refine pb_Ex.iret rfl rfl (by omega) (by omega) (⟨rfl, rfl⟩)
theorem hu_seams (hW : hu_W K h B k f) (ok : hu_ok f k) : pb_Ctr G mX6_seams 2 0 0 [pb_r (B 0)] h (pb_P (some (pb_i (ya_se f k))) h) := by
  have hn := ok.nn
  refine pb_Ctr.of rfl rfl rfl tX6_seams_ok rfl ?_
  (try refine pb_Ex.run rfl ?_)
  refine pb_Ex.pV rfl rfl rfl rfl (hW.1) rfl rfl (hu_size hW) (by omega) (by omega) (by omega) ?_
  (try refine pb_Ex.run rfl ?_)
  refine pb_Ex.mmax rfl rfl (by omega) (by omega) rfl (by omega) (by omega) (by omega) ?_
  (try refine pb_Ex.run rfl ?_)
  have e : max (0 : Int) ((ya_n f k : Int) - 1) = (ya_se f k : Int) := by unfold ya_se; omega
  rw [e]
  refine pb_Ex.iret rfl rfl (by omega) (by omega) (⟨rfl, rfl⟩)
theorem hu_is (hG : co_G G K) (hW : hu_W K h B k f) (ok : hu_ok f k) (i : Nat) (hi : i < 4) : pb_Ctr G mX6_is 0 0 0 [pb_r (B 0), pb_r (co_st K i)] h (pb_P (some (pb_i (if f (21 + 28 * k) = i then 1 else 0))) h) := by
  have h1 := ok.1.1
  refine pb_Ctr.of rfl rfl rfl tX6_is_ok rfl ?_
  (try refine pb_Ex.run rfl ?_)
  refine pb_Ex.getf rfl rfl hW.1 rfl ?_
  (try refine pb_Ex.run rfl ?_)
  refine pb_Ex.acmp_ne rfl (fun c => ?_) (fun c => ?_)
  · rw [if_neg (fun e => c (by rw [e, Int.toNat_natCast]))]
    refine pb_Ex.run rfl ?_
    refine pb_Ex.zret (ty := .boolean) rfl rfl (pb_nb (Or.inl rfl)).1 (by omega) (by omega) (⟨rfl, rfl⟩)
  · have := hG.2.2.2.2.2.1 _ _ (by omega) hi (Option.some.inj c)
    rw [if_pos (by omega)]
    refine pb_Ex.run rfl ?_
    refine pb_Ex.zret (ty := .boolean) rfl rfl (pb_nb (Or.inr rfl)).1 (by omega) (by omega) (⟨rfl, rfl⟩)
theorem cx_sum {o N : Nat} {g : Nat → Int} (ha : h.2 o = some (pb_aI 0 N g)) (hN : N ≤ 10) (hg : ∀ j, j ≤ N → pb_rg (ya_sum g j)) : pb_Ctr G mX1_sum 0 0 0 [pb_r o] h (pb_P (some (pb_i (ya_sum g N))) h) := by
  refine pb_Ctr.of rfl rfl rfl tX1_sum_ok rfl ?_
  (try refine pb_Ex.run rfl ?_)
  refine pb_Ex.alen0 (N := N) (kd := 0) rfl (ha) rfl (by omega) ?_
  (try refine pb_Ex.run rfl ?_)
  have loop : ∀ (d j : Nat) (z : Int) (y : Option pb_V), j + d = N → z = j → pb_Ex G mX1_sum 0 0 0 (pb_P (some (pb_i (ya_sum g N))) h) 0 0 10 [some (pb_r o), some (pb_i (ya_sum g j)), some (pb_r o), some (pb_i N), some (pb_i z), y] [] h := by
    intro d
    induction d with
    | zero =>
      intro j z y hj hz
      have e : j = N := by omega
      subst e
      refine pb_Ex.run rfl ?_
      refine pb_Ex.icmpT rfl (by omega) (by omega) (by first | decide | (simp only [pb_cmp]; omega) | simp [pb_cmp]) ?_
      (try refine pb_Ex.run rfl ?_)
      refine pb_Ex.iret rfl rfl (by omega) (by omega) (⟨rfl, rfl⟩)
    | succ d ih =>
      intro j z y hj hz
      subst hz
      refine pb_Ex.run rfl ?_
      refine pb_Ex.icmpF rfl (by omega) (by omega) (by first | decide | (simp only [pb_cmp]; omega) | simp [pb_cmp]) ?_
      (try refine pb_Ex.run rfl ?_)
      refine pb_Ex.iat (j) rfl (ha) (by omega) (by omega) ?_
      (try refine pb_Ex.run rfl ?_)
      exact ih (j + 1) _ _ (by omega) (by omega)
  exact loop N 0 0 none (by omega) rfl
theorem hu_weight (hG : co_G G K) (hW : hu_W K h B k f) (ok : hu_ok f k) : pb_Ctr G mX6_weight 3 1 2 [pb_r (B 0)] h (fr_Q (some (pb_i (ya_wt f k))) h) := by
  have hn := ok.nn
  have hh := ok.1.1
  have h300 := ok.2
  refine pb_Ctr.of rfl rfl rfl tX6_weight_ok rfl ?_
  (try refine pb_Ex.run rfl ?_)
  refine pb_Ex.fin (fun hf => ?_)
  refine pb_Ex.newI 2 rfl rfl (by omega) (by omega) (by omega) ?_
  refine pb_Ex.run rfl ?_
  have hx1 : fr_x h (pb_new h (pb_aI 0 2 (fun _ => 0))) := fr_x.nw fr_x.rf hf _
  refine pb_Ex.getf rfl rfl (hx1.at hW.1) rfl ?_
  (try refine pb_Ex.run rfl ?_)
  refine pb_Ex.istat (0) rfl (pb_new_same) (by omega) (by omega) ?_
  (try refine pb_Ex.run rfl ?_)
  have hx2 : fr_x h (pb_set (pb_new h (pb_aI 0 2 (fun _ => 0))) h.1 (pb_aI 0 2 (va_up (fun _ => 0) 0 (f (23 + 28 * k))))) := fr_x.st hx1 hf _ (Nat.le_refl _)
  refine pb_Ex.getf rfl rfl (hx2.at hW.1) rfl ?_
  (try refine pb_Ex.run rfl ?_)
  refine pb_Ex.istat (1) rfl (pb_set_same) (by omega) (by omega) ?_
  (try refine pb_Ex.run rfl ?_)
  have hx3 : fr_x h (pb_set (pb_set (pb_new h (pb_aI 0 2 (fun _ => 0))) h.1 (pb_aI 0 2 (va_up (fun _ => 0) 0 (f (23 + 28 * k))))) h.1 (pb_aI 0 2 (va_up (va_up (fun _ => 0) 0 (f (23 + 28 * k))) 1 (f (24 + 28 * k))))) := fr_x.st hx2 hf _ (Nat.le_refl _)
  have ha : (pb_set (pb_set (pb_new h (pb_aI 0 2 (fun _ => 0))) h.1 (pb_aI 0 2 (va_up (fun _ => 0) 0 (f (23 + 28 * k))))) h.1 (pb_aI 0 2 (va_up (va_up (fun _ => 0) 0 (f (23 + 28 * k))) 1 (f (24 + 28 * k))))).2 h.1 = some (pb_aI 0 2 (va_up (va_up (fun _ => 0) 0 (f (23 + 28 * k))) 1 (f (24 + 28 * k)))) := pb_set_same
  generalize pb_set (pb_set (pb_new h (pb_aI 0 2 (fun _ => 0))) h.1 (pb_aI 0 2 (va_up (fun _ => 0) 0 (f (23 + 28 * k))))) h.1 (pb_aI 0 2 (va_up (va_up (fun _ => 0) 0 (f (23 + 28 * k))) 1 (f (24 + 28 * k)))) = h1 at hx3 ha ⊢
  have hs : ya_sum (va_up (va_up (fun _ => 0) 0 (f (23 + 28 * k))) 1 (f (24 + 28 * k))) 2 = f (23 + 28 * k) + f (24 + 28 * k) := by
    simp [ya_sum, va_up]
  refine pb_Ex.callSN (np := 1) (M2 := mX1_sum) (n2 := 0) (C2 := 0) (S2 := 0) rfl q800 mX1_sum_ok.1 mX1_sum_ok.2 rfl rfl (cx_sum ha (by omega) (fun j hj => ?_)) ⟨by omega, by omega, by omega⟩ (fun v h2 hq2 => ?_) (fun E q9 h2 hq2 => by cases hq2.1)
  · match j, hj with
    | 0, _ => simp [ya_sum]; omega
    | 1, _ => simp [ya_sum, va_up]; omega
    | 2, _ => rw [hs]; omega
  obtain ⟨e1, e2⟩ := hq2
  cases e1
  rw [e2, hs]
  refine pb_Ex.run rfl ?_
  have hW1 := hW.x hx3
  obtain ⟨l1, ⟨g, l2, l3⟩, -⟩ := hW1
  obtain ⟨mc, ho⟩ := l2.obj
  have loop : ∀ (d j : Nat) (z w : Int), j + d = ya_n f k → z = j → w = f (23 + 28 * k) + f (24 + 28 * k) + ya_sum (ya_fw f k) j → pb_Ex G mX6_weight 3 1 2 (fr_Q (some (pb_i (ya_wt f k))) h) (0 + 1 + 0) (0 + 2 + 0) 23 [some (pb_r (B 0)), some (pb_i w), some (pb_i z)] [] h1 := by
    intro d
    induction d with
    | zero =>
      intro j z w hj hz hw
      have e : j = ya_n f k := by omega
      subst e
      refine pb_Ex.run rfl ?_
      refine pb_Ex.pV rfl rfl rfl rfl (l1) rfl rfl (hu_size (hW.x hx3)) (by omega) (by omega) (by omega) ?_
      (try refine pb_Ex.run rfl ?_)
      refine pb_Ex.icmpT rfl (by omega) (by omega) (by first | decide | (simp only [pb_cmp]; omega) | simp [pb_cmp]) ?_
      (try refine pb_Ex.run rfl ?_)
      have e2 : w = ya_wt f k := by unfold ya_wt ya_dry; omega
      rw [e2]
      refine pb_Ex.iret rfl rfl (by omega) (by omega) (⟨rfl, hx3⟩)
    | succ d ih =>
      intro j z w hj hz hw
      subst hz
      have hs := ok.sum j (by omega)
      have hfw := ok.fw (j := j) (by omega)
      refine pb_Ex.run rfl ?_
      refine pb_Ex.pV rfl rfl rfl rfl (l1) rfl rfl (hu_size (hW.x hx3)) (by omega) (by omega) (by omega) ?_
      (try refine pb_Ex.run rfl ?_)
      refine pb_Ex.icmpF rfl (by omega) (by omega) (by first | decide | (simp only [pb_cmp]; omega) | simp [pb_cmp]) ?_
      (try refine pb_Ex.run rfl ?_)
      refine pb_Ex.getf rfl rfl l1 rfl ?_
      (try refine pb_Ex.run rfl ?_)
      refine pb_Ex.pV rfl rfl rfl rfl (ho) rfl rfl (ja_get l2 j (by omega)) (by omega) (by omega) (by omega) ?_
      (try refine pb_Ex.run rfl ?_)
      refine pb_Ex.cast0 rfl rfl (l3 j (by omega)) (fun r hr => by cases hr; rfl) ?_
      (try refine pb_Ex.run rfl ?_)
      refine pb_Ex.pV rfl rfl rfl rfl (l3 j (by omega)) rfl rfl (fm_width (l3 j (by omega))) (by omega) (by omega) (by omega) ?_
      (try refine pb_Ex.run rfl ?_)
      refine ih (j + 1) _ _ (by omega) (by omega) ?_
      rw [ya_sum_s, hw]
      unfold ya_fw
      omega
  exact loop (ya_n f k) 0 0 _ (by omega) rfl (by simp [ya_sum])
theorem hu_seamWidths (hW : hu_W K h B k f) (ok : hu_ok f k) : pb_Ctr G mX6_seamWidths 3 0 0 [pb_r (B 0)] h (pb_P (some (pb_i (ya_wd f k))) h) := by
  have hn := ok.nn
  have hW' := hW
  obtain ⟨l1, ⟨g, l2, l3⟩, -⟩ := hW
  obtain ⟨mc, ho⟩ := l2.obj
  have hse8 : ya_se f k ≤ 8 := by unfold ya_se; omega
  refine pb_Ctr.of rfl rfl rfl tX6_seamWidths_ok rfl ?_
  (try refine pb_Ex.run rfl ?_)
  have loop : ∀ (d j : Nat) (z w : Int), j + d = ya_se f k → z = j → w = ya_sum (fun j => ya_fw f k j + ya_fw f k (j + 1)) j → pb_Ex G mX6_seamWidths 3 0 0 (pb_P (some (pb_i (ya_wd f k))) h) 0 0 4 [some (pb_r (B 0)), some (pb_i w), some (pb_i z)] [] h := by
    intro d
    induction d with
    | zero =>
      intro j z w hj hz hw
      have e : j = ya_se f k := by omega
      subst e
      refine pb_Ex.run rfl ?_
      refine pb_Ex.pV rfl rfl rfl rfl (l1) rfl rfl (hu_seams hW' ok) (by omega) (by omega) (by omega) ?_
      (try refine pb_Ex.run rfl ?_)
      refine pb_Ex.icmpT rfl (by omega) (by omega) (by first | decide | (simp only [pb_cmp]; omega) | simp [pb_cmp]) ?_
      (try refine pb_Ex.run rfl ?_)
      rw [hw]
      refine pb_Ex.iret rfl rfl (by omega) (by omega) (⟨rfl, rfl⟩)
    | succ d ih =>
      intro j z w hj hz hw
      subst hz
      have hse : j + 1 < ya_n f k := by unfold ya_se at hj; omega
      refine pb_Ex.run rfl ?_
      refine pb_Ex.pV rfl rfl rfl rfl (l1) rfl rfl (hu_seams hW' ok) (by omega) (by omega) (by omega) ?_
      (try refine pb_Ex.run rfl ?_)
      refine pb_Ex.icmpF rfl (by omega) (by omega) (by first | decide | (simp only [pb_cmp]; omega) | simp [pb_cmp]) ?_
      (try refine pb_Ex.run rfl ?_)
      refine pb_Ex.getf rfl rfl l1 rfl ?_
      (try refine pb_Ex.run rfl ?_)
      refine pb_Ex.pV rfl rfl rfl rfl (ho) rfl rfl (ja_get l2 j (by omega)) (by omega) (by omega) (by omega) ?_
      (try refine pb_Ex.run rfl ?_)
      refine pb_Ex.cast0 rfl rfl (l3 j (by omega)) (fun r hr => by cases hr; rfl) ?_
      (try refine pb_Ex.run rfl ?_)
      refine pb_Ex.pV rfl rfl rfl rfl (l3 j (by omega)) rfl rfl (fm_width (l3 j (by omega))) (by omega) (by omega) (by omega) ?_
      (try refine pb_Ex.run rfl ?_)
      refine pb_Ex.getf rfl rfl l1 rfl ?_
      (try refine pb_Ex.run rfl ?_)
      have e1 : (j : Int) + 1 = ((j + 1 : Nat) : Int) := by omega
      rw [e1]
      refine pb_Ex.pV rfl rfl rfl rfl (ho) rfl rfl (ja_get l2 (j + 1) (by omega)) (by omega) (by omega) (by omega) ?_
      (try refine pb_Ex.run rfl ?_)
      refine pb_Ex.cast0 rfl rfl (l3 (j + 1) (by omega)) (fun r hr => by cases hr; rfl) ?_
      (try refine pb_Ex.run rfl ?_)
      refine pb_Ex.pV rfl rfl rfl rfl (l3 (j + 1) (by omega)) rfl rfl (fm_width (l3 (j + 1) (by omega))) (by omega) (by omega) (by omega) ?_
      (try refine pb_Ex.run rfl ?_)
      refine ih (j + 1) _ _ (by omega) (by omega) ?_
      rw [ya_sum_s, hw]
      unfold ya_fw
      omega
  exact loop (ya_se f k) 0 0 _ (by omega) rfl rfl
theorem hu_floatsAt (hG : co_G G K) (hW : hu_W K h B k f) (ok : hu_ok f k) (d : Nat) (hd : d ≤ 40) : pb_Ctr G mX6_floatsAt 4 1 2 [pb_r (B 0), pb_i d] h (fr_Q (some (pb_i (if ya_wt f k ≤ ya_wd f k * d / 2 then 1 else 0))) h) := by
  have hwd := ok.wd (ya_se f k) (by have := ok.nn; unfold ya_se; omega)
  have hwt := ok.wt
  have hm : 0 ≤ ya_wd f k * d ∧ ya_wd f k * d ≤ 33600 := by
    have h1 : 0 ≤ ya_wd f k ∧ ya_wd f k ≤ 840 := hwd
    constructor
    · exact Int.mul_nonneg h1.1 (by omega)
    · calc ya_wd f k * (d : Int) ≤ 840 * (d : Int) := Int.mul_le_mul_of_nonneg_right h1.2 (by omega)
        _ ≤ 33600 := by omega
  refine pb_Ctr.of rfl rfl rfl tX6_floatsAt_ok rfl ?_
  (try refine pb_Ex.run rfl ?_)
  refine pb_Ex.pV rfl rfl rfl rfl (hW.1) rfl rfl (hu_seamWidths hW ok) (by omega) (by omega) (by omega) ?_
  (try refine pb_Ex.run rfl ?_)
  refine pb_Ex.idiv rfl (by omega) (by omega) ?_
  refine pb_Ex.run rfl ?_
  refine pb_Ex.rV rfl rfl rfl rfl (hW.1) rfl rfl (hu_weight hG hW ok) (by omega) (by omega) (by omega) (fun h1 hx1 => ?_)
  (try refine pb_Ex.run rfl ?_)
  refine pb_Ex.icmp_lt rfl (by omega) (by omega) (fun c => ?_) (fun c => ?_)
  · rw [if_neg (by omega)]
    refine pb_Ex.run rfl ?_
    refine pb_Ex.zret (ty := .boolean) rfl rfl (pb_nb (Or.inl rfl)).1 (by omega) (by omega) (⟨rfl, hx1⟩)
  · rw [if_pos (by omega)]
    refine pb_Ex.run rfl ?_
    refine pb_Ex.zret (ty := .boolean) rfl rfl (pb_nb (Or.inr rfl)).1 (by omega) (by omega) (⟨rfl, hx1⟩)
theorem hu_canFloat (hG : co_G G K) (hW : hu_W K h B k f) (ok : hu_ok f k) : pb_Ctr G mX6_canFloat 5 1 2 [pb_r (B 0)] h (fr_Q (some (pb_i (if ya_wt f k ≤ ya_wd f k * 40 / 2 then 1 else 0))) h) := by
  refine pb_Ctr.of rfl rfl rfl tX6_canFloat_ok rfl ?_
  (try refine pb_Ex.run rfl ?_)
  refine pb_Ex.rV rfl rfl rfl rfl (hW.1) rfl rfl (hu_floatsAt hG hW ok 40 (by omega)) (by omega) (by omega) (by omega) (fun h1 hx1 => ?_)
  (try refine pb_Ex.run rfl ?_)
  have e : ((40 : Nat) : Int) = 40 := rfl
  rw [e]
  refine pb_Ex.zret (ty := .boolean) rfl rfl (pb_nb ((by split <;> omega))).1 (by omega) (by omega) (⟨rfl, hx1⟩)
theorem hu_draught (hG : co_G G K) (hW : hu_W K h B k f) (ok : hu_ok f k) : pb_Ctr G mX6_draught 5 41 82 [pb_r (B 0)] h (fr_Q (some (pb_i (ya_dr (ya_wd f k) (ya_wt f k)))) h) := by
  refine pb_Ctr.of rfl rfl rfl tX6_draught_ok rfl ?_
  (try refine pb_Ex.run rfl ?_)
  have loop : ∀ (m d : Nat) (z : Int) (h1 : pb_H) (c u : Nat), d + m = 41 → z = d → fr_x h h1 → c + m ≤ 41 → u + 2 * m ≤ 82 → ya_drF (ya_wd f k) (ya_wt f k) d m = ya_dr (ya_wd f k) (ya_wt f k) → pb_Ex G mX6_draught 5 41 82 (fr_Q (some (pb_i (ya_dr (ya_wd f k) (ya_wt f k)))) h) c u 2 [some (pb_r (B 0)), some (pb_i z)] [] h1 := by
    intro m
    induction m with
    | zero =>
      intro d z h1 c u hd hz hx hc hu hr
      refine pb_Ex.run rfl ?_
      refine pb_Ex.icmpT rfl (by omega) (by omega) (by first | decide | (simp only [pb_cmp]; omega) | simp [pb_cmp]) ?_
      (try refine pb_Ex.run rfl ?_)
      rw [← hr]
      refine pb_Ex.iret rfl rfl (by omega) (by omega) (⟨rfl, hx⟩)
    | succ m ih =>
      intro d z h1 c u hd hz hx hc hu hr
      subst hz
      refine pb_Ex.run rfl ?_
      refine pb_Ex.icmpF rfl (by omega) (by omega) (by first | decide | (simp only [pb_cmp]; omega) | simp [pb_cmp]) ?_
      (try refine pb_Ex.run rfl ?_)
      refine pb_Ex.rV rfl rfl rfl rfl ((hx.at hW.1)) rfl rfl (hu_floatsAt hG (hW.x hx) ok d (by omega)) (by omega) (by omega) (by omega) (fun h2 hx2 => ?_)
      (try refine pb_Ex.run rfl ?_)
      unfold ya_drF at hr
      by_cases cc : ya_wt f k ≤ ya_wd f k * d / 2
      · rw [if_pos cc] at hr ⊢
        refine pb_Ex.ifF rfl (by omega) (by first | decide | (simp only [pb_cmp]; omega) | simp [pb_cmp]) ?_
        (try refine pb_Ex.run rfl ?_)
        rw [← hr]
        refine pb_Ex.iret rfl rfl (by omega) (by omega) (⟨rfl, hx.tr hx2⟩)
      · rw [if_neg cc] at hr ⊢
        refine pb_Ex.ifT rfl (by omega) (by first | decide | (simp only [pb_cmp]; omega) | simp [pb_cmp]) ?_
        (try refine pb_Ex.run rfl ?_)
        exact ih (d + 1) _ h2 _ _ (by omega) (by omega) (hx.tr hx2) (by omega) (by omega) hr
  exact loop 41 0 0 h 0 0 (by omega) rfl fr_x.rf (by omega) (by omega) rfl
theorem hu_heel (hW : hu_W K h B k f) (ok : hu_ok f k) : pb_Ctr G mX6_heel 3 0 0 [pb_r (B 0)] h (pb_P (some (pb_i (ya_sum (ya_hd f k) (ya_n f k)))) h) := by
  have hn := ok.nn
  have hW' := hW
  obtain ⟨l1, ⟨g, l2, l3⟩, -⟩ := hW
  obtain ⟨mc, ho⟩ := l2.obj
  refine pb_Ctr.of rfl rfl rfl tX6_heel_ok rfl ?_
  (try refine pb_Ex.run rfl ?_)
  have loop : ∀ (d j : Nat) (z w : Int), j + d = ya_n f k → z = j → w = ya_sum (ya_hd f k) j → pb_Ex G mX6_heel 3 0 0 (pb_P (some (pb_i (ya_sum (ya_hd f k) (ya_n f k)))) h) 0 0 4 [some (pb_r (B 0)), some (pb_i w), some (pb_i z)] [] h := by
    intro d
    induction d with
    | zero =>
      intro j z w hj hz hw
      have e : j = ya_n f k := by omega
      subst e
      refine pb_Ex.run rfl ?_
      refine pb_Ex.pV rfl rfl rfl rfl (l1) rfl rfl (hu_size hW') (by omega) (by omega) (by omega) ?_
      (try refine pb_Ex.run rfl ?_)
      refine pb_Ex.icmpT rfl (by omega) (by omega) (by first | decide | (simp only [pb_cmp]; omega) | simp [pb_cmp]) ?_
      (try refine pb_Ex.run rfl ?_)
      rw [hw]
      refine pb_Ex.iret rfl rfl (by omega) (by omega) (⟨rfl, rfl⟩)
    | succ d ih =>
      intro j z w hj hz hw
      subst hz
      refine pb_Ex.run rfl ?_
      refine pb_Ex.pV rfl rfl rfl rfl (l1) rfl rfl (hu_size hW') (by omega) (by omega) (by omega) ?_
      (try refine pb_Ex.run rfl ?_)
      refine pb_Ex.icmpF rfl (by omega) (by omega) (by first | decide | (simp only [pb_cmp]; omega) | simp [pb_cmp]) ?_
      (try refine pb_Ex.run rfl ?_)
      refine pb_Ex.getf rfl rfl l1 rfl ?_
      (try refine pb_Ex.run rfl ?_)
      refine pb_Ex.pV rfl rfl rfl rfl (ho) rfl rfl (ja_get l2 j (by omega)) (by omega) (by omega) (by omega) ?_
      (try refine pb_Ex.run rfl ?_)
      refine pb_Ex.cast0 rfl rfl (l3 j (by omega)) (fun r hr => by cases hr; rfl) ?_
      (try refine pb_Ex.run rfl ?_)
      refine pb_Ex.getf rfl rfl (l3 j (by omega)) rfl ?_
      (try refine pb_Ex.run rfl ?_)
      refine pb_Ex.getf rfl rfl l1 rfl ?_
      (try refine pb_Ex.run rfl ?_)
      refine pb_Ex.pV rfl rfl rfl rfl (ho) rfl rfl (ja_get l2 j (by omega)) (by omega) (by omega) (by omega) ?_
      (try refine pb_Ex.run rfl ?_)
      refine pb_Ex.cast0 rfl rfl (l3 j (by omega)) (fun r hr => by cases hr; rfl) ?_
      (try refine pb_Ex.run rfl ?_)
      refine pb_Ex.getf rfl rfl (l3 j (by omega)) rfl ?_
      (try refine pb_Ex.run rfl ?_)
      refine ih (j + 1) _ _ (by omega) (by omega) ?_
      rw [ya_sum_s, hw]
      unfold ya_hd
      omega
  exact loop (ya_n f k) 0 0 _ (by omega) rfl rfl
end HULL
