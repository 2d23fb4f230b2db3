set_option maxRecDepth 100000
/-! SHORTEST SLIPS FIRST -/
theorem ma_n_up {s : Nat → Int} {i x : Nat} (hi : i < 4) (h : s i = -1) : ma_n (va_up s i (x : Int)) = ma_n s + 1 := by
  have key : ∀ j, j < 4 → ma_d (va_up s i (x : Int)) j = ma_d s j + (if j = i then 1 else 0) := fun j hj => by
    unfold ma_d
    by_cases q : j = i
    · rw [q, va_upS, if_neg (by omega), if_pos h, if_pos rfl]; rfl
    · rw [va_upN _ _ q, if_neg q]; omega
  unfold ma_n
  rw [ya_sum4, ya_sum4, key 0 (by omega), key 1 (by omega), key 2 (by omega), key 3 (by omega)]
  have : i = 0 ∨ i = 1 ∨ i = 2 ∨ i = 3 := by omega
  rcases this with rfl | rfl | rfl | rfl <;> simp <;> omega
theorem sh_F_spec (f : Nat → Int) (x : Nat) (us : Nat → Int) : ∀ n : Nat, (sh_F f x us n = -1 → ∀ i, i < n → us i = 0 → ¬ ya_ft f x i) ∧ (sh_F f x us n ≠ -1 → us (sh_F f x us n).toNat = 0 ∧ ya_ft f x (sh_F f x us n).toNat ∧ ∀ i, i < n → us i = 0 → ya_ft f x i → f (17 + (sh_F f x us n).toNat) ≤ f (17 + i))
  | 0 => ⟨fun _ i hi => absurd hi (Nat.not_lt_zero _), fun h => absurd rfl h⟩
  | n + 1 => by
    obtain ⟨h1, h2⟩ := sh_F_spec f x us n
    have e : sh_F f x us (n + 1) = if us n = 0 ∧ (f (21 + 28 * x) = 0 ∧ 2 ≤ f (22 + 28 * x) ∧ f (22 + 28 * x) ≤ f (17 + n)) ∧ (sh_F f x us n = -1 ∨ f (17 + n) < f (17 + (sh_F f x us n).toNat)) then (n : Int) else sh_F f x us n := rfl
    rw [e]
    by_cases c : us n = 0 ∧ (f (21 + 28 * x) = 0 ∧ 2 ≤ f (22 + 28 * x) ∧ f (22 + 28 * x) ≤ f (17 + n)) ∧ (sh_F f x us n = -1 ∨ f (17 + n) < f (17 + (sh_F f x us n).toNat))
    · rw [if_pos c]
      refine ⟨fun q => by omega, fun _ => ?_⟩
      rw [Int.toNat_natCast]
      refine ⟨c.1, c.2.1, fun i hi u hf => ?_⟩
      by_cases q : i = n
      · rw [q]; exact Int.le_refl _
      · rcases c.2.2 with w | w
        · exact absurd hf (h1 w i (by omega) u)
        · by_cases w2 : sh_F f x us n = -1
          · exact absurd hf (h1 w2 i (by omega) u)
          · have := (h2 w2).2.2 i (by omega) u hf
            omega
    · rw [if_neg c]
      refine ⟨fun q i hi u hf => ?_, fun q => ?_⟩
      · by_cases z : i = n
        · subst z
          exact c ⟨u, hf, Or.inl q⟩
        · exact h1 q i (by omega) u hf
      · obtain ⟨a1, a2, a3⟩ := h2 q
        refine ⟨a1, a2, fun i hi u hf => ?_⟩
        by_cases z : i = n
        · subst z
          by_cases w : f (17 + i) < f (17 + (sh_F f x us i).toNat)
          · exact absurd ⟨u, hf, Or.inr w⟩ c
          · omega
        · exact a3 i (by omega) u hf
def gl_I (f : Nat → Int) (P : Nat → Prop) (g : gl_S) : Prop := ∃ s, ma_ok f P s ∧ ma_n s = g.2 ∧ (∀ i, i < 4 → (g.1 i = 0 ↔ s i = -1)) ∧ (∀ i i0, i < 4 → i0 < 4 → s i ≠ -1 → g.1 i0 = 0 → f (22 + 28 * (s i).toNat) ≤ f (17 + i0) → f (17 + i) ≤ f (17 + i0)) ∧ ma_max f P g.2
theorem gl_I.step {f : Nat → Int} {P P' : Nat → Prop} {g : gl_S} {k : Nat} (h : gl_I f P g) (hk : ¬ P k) (hP : ∀ z, P' z ↔ P z ∨ z = k) : gl_I f P' (if sh_F f k g.1 4 ≠ -1 then (va_up g.1 (sh_F f k g.1 4).toNat 1, g.2 + 1) else g) := by
  obtain ⟨s, o, hn, hu, hs, hm⟩ := h
  obtain ⟨h1, h2⟩ := sh_F_spec f k g.1 4
  have rg := sh_F_rg f k g.1 4
  by_cases c : sh_F f k g.1 4 = -1
  · rw [if_neg (not_not_intro c)]
    have h1 := h1 c
    refine ⟨s, o.mono (fun z hz => (hP z).mpr (Or.inl hz)), hn, hu, hs, hm.same (T := fun i => @decide (∀ i0, i0 < 4 → g.1 i0 = 0 → f (17 + i0) < f (17 + i)) (Classical.propDecidable _)) (M := s) (fun z hz => (hP z).mpr (Or.inl hz)) o (fun i hi q e => ?_) (fun z i hi q hz hf => ?_)⟩
    · have := @of_decide_eq_true _ (Classical.propDecidable _) q i hi ((hu i hi).mpr e)
      omega
    · have q := @of_decide_eq_false _ (Classical.propDecidable _) q
      obtain ⟨i0, q0⟩ := Classical.not_forall.mp q
      obtain ⟨hi0, q1⟩ := Classical.not_imp.mp q0
      obtain ⟨u0, q2⟩ := Classical.not_imp.mp q1
      have hf0 : ya_ft f z i0 := ⟨hf.1, hf.2.1, by have := hf.2.2; omega⟩
      refine ⟨?_, fun j hj w e => ?_⟩
      · rcases (hP z).mp hz with w | w
        · exact w
        · exact absurd hf0 (by rw [w]; exact h1 i0 hi0 u0)
      · have w := @of_decide_eq_true _ (Classical.propDecidable _) w i0 hi0 u0
        have := hs j i0 hj hi0 (by omega) u0 (by rw [e, Int.toNat_natCast]; exact hf0.2.2)
        omega
  · rw [if_pos c]
    obtain ⟨a1, a2, a3⟩ := h2 c
    obtain ⟨i, hi⟩ : ∃ i : Nat, i = (sh_F f k g.1 4).toNat := ⟨_, rfl⟩
    rw [← hi] at a1 a2 a3 ⊢
    have hi4 : i < 4 := by omega
    have si := (hu i hi4).mp a1
    have o' : ma_ok f P' (va_up s i (k : Int)) := by
      refine ⟨fun j hj => ?_, fun j j2 hj hj2 hjj e => ?_⟩
      · by_cases q : j = i
        · rw [q, va_upS]
          exact Or.inr ⟨by omega, by rw [Int.toNat_natCast]; exact (hP k).mpr (Or.inr rfl), by rw [Int.toNat_natCast]; exact a2⟩
        · rw [va_upN _ _ q]
          exact (o.1 j hj).imp id (fun w => ⟨w.1, (hP _).mpr (Or.inl w.2.1), w.2.2⟩)
      · have nk : ∀ j, j < 4 → s j ≠ (k : Int) := fun j hj w => by
          rcases o.1 j hj with w2 | w2
          · omega
          · exact hk (by have := w2.2.1; rw [w, Int.toNat_natCast] at this; exact this)
        by_cases q : j = i
        · rw [q, va_upS, va_upN _ _ (by omega)] at e
          exact absurd e.symm (nk j2 hj2)
        · by_cases q2 : j2 = i
          · rw [q2, va_upS, va_upN _ _ (by omega)] at e
            exact absurd e (nk j hj)
          · rw [va_upN _ _ q, va_upN _ _ q2] at e
            rw [va_upN _ _ q]
            exact o.2 j j2 hj hj2 hjj e
    have n' : ma_n (va_up s i (k : Int)) = g.2 + 1 := by rw [ma_n_up hi4 si, hn]
    refine ⟨va_up s i (k : Int), o', n', fun j hj => ?_, fun j j0 hj hj0 w u e => ?_, hm.add o' n' (fun z hz => (hP z).mp hz)⟩
    · show va_up g.1 i 1 j = 0 ↔ _
      by_cases q : j = i
      · rw [q, va_upS, va_upS]; omega
      · rw [va_upN _ _ q, va_upN _ _ q]; exact hu j hj
    · have u : va_up g.1 i 1 j0 = 0 := u
      have q0 : j0 ≠ i := fun z => by rw [z, va_upS] at u; exact absurd u (by decide)
      rw [va_upN _ _ q0] at u
      by_cases q : j = i
      · rw [q, va_upS, Int.toNat_natCast] at e
        rw [q]
        exact a3 j0 hj0 u ⟨a2.1, a2.2.1, e⟩
      · rw [va_upN _ _ q] at w e
        exact hs j j0 hj hj0 w u e
def gl_P (f : Nat → Int) (N : Nat) (l : Int) (k : Nat) (z : Nat) : Prop := (z < N ∧ 2 ≤ (ya_n f z : Int) ∧ (ya_n f z : Int) < l) ∨ (z < k ∧ (ya_n f z : Int) = l)
theorem gl_I.cg {f : Nat → Int} {P P' : Nat → Prop} {g : gl_S} (h : gl_I f P g) (hP : ∀ z, P z ↔ P' z) : gl_I f P' g := by
  have : P = P' := funext fun z => propext (hP z)
  rw [← this]; exact h
theorem gl_hI {f : Nat → Int} {N : Nat} {l : Int} {g : gl_S} (h : gl_I f (gl_P f N l 0) g) : ∀ k : Nat, gl_I f (gl_P f N l k) (gl_h f l k g)
  | 0 => h
  | k + 1 => by
    have ih := gl_hI h k
    have e : gl_h f l (k + 1) g = if (ya_n f k : Int) = l ∧ sh_F f k (gl_h f l k g).1 4 ≠ -1 then (va_up (gl_h f l k g).1 (sh_F f k (gl_h f l k g).1 4).toNat 1, (gl_h f l k g).2 + 1) else gl_h f l k g := rfl
    rw [e]
    by_cases c : (ya_n f k : Int) = l
    · have h9 := ih.step (k := k) (P' := gl_P f N l (k + 1)) (fun q => by unfold gl_P at q; omega) (fun z => by
        unfold gl_P
        constructor
        · rintro (q | q)
          · exact Or.inl (Or.inl q)
          · by_cases w : z = k
            · exact Or.inr w
            · exact Or.inl (Or.inr ⟨by omega, q.2⟩)
        · rintro ((q | q) | q)
          · exact Or.inl q
          · exact Or.inr ⟨by omega, q.2⟩
          · subst q; exact Or.inr ⟨by omega, c⟩)
      by_cases c2 : sh_F f k (gl_h f l k g).1 4 ≠ -1
      · rw [if_pos ⟨c, c2⟩]; rw [if_pos c2] at h9; exact h9
      · rw [if_neg (fun z => c2 z.2)]; rw [if_neg c2] at h9; exact h9
    · rw [if_neg (fun z => c z.1)]
      refine ih.cg (fun z => ?_)
      unfold gl_P
      constructor
      · rintro (q | q)
        · exact Or.inl q
        · exact Or.inr ⟨by omega, q.2⟩
      · rintro (q | q)
        · exact Or.inl q
        · refine Or.inr ⟨?_, q.2⟩
          by_cases w : z = k
          · subst w; exact absurd q.2 c
          · omega
theorem gl_lI {f : Nat → Int} : ∀ j : Nat, gl_I f (gl_P f (f 0).toNat (2 + j : Nat) 0) (gl_l f j)
  | 0 => by
    have nP : ∀ z, ¬ gl_P f (f 0).toNat (2 + 0 : Nat) 0 z := fun z q => by unfold gl_P at q; omega
    have z0 : ma_n (fun _ => -1) = 0 := by unfold ma_n; rw [ya_sum4]; rfl
    refine ⟨fun _ => -1, ⟨fun _ _ => Or.inl rfl, fun _ _ _ _ _ _ => rfl⟩, z0, fun i hi => ⟨fun _ => rfl, fun _ => rfl⟩, fun i _ _ _ q => absurd rfl q, ⟨_, ⟨fun _ _ => Or.inl rfl, fun _ _ _ _ _ _ => rfl⟩, z0⟩, fun s h => ?_⟩
    have : ∀ i, i < 4 → ma_d s i = 0 := fun i hi => by
      rcases h.1 i hi with q | q
      · unfold ma_d; rw [if_pos q]
      · exact absurd q.2.1 (nP _)
    unfold ma_n
    rw [ya_sum4, this 0 (by omega), this 1 (by omega), this 2 (by omega), this 3 (by omega)]
    exact Int.le_refl _
  | j + 1 => by
    have h := gl_hI (gl_lI (f := f) j) (f 0).toNat
    have e : gl_l f (j + 1) = gl_h f (2 + j : Nat) (f 0).toNat (gl_l f j) := rfl
    rw [e]
    refine h.cg (fun z => ?_)
    unfold gl_P
    constructor
    · rintro (q | q)
      · exact Or.inl ⟨q.1, q.2.1, by omega⟩
      · exact Or.inl ⟨q.1, by omega, by omega⟩
    · rintro (q | q)
      · by_cases w : (ya_n f z : Int) = (2 + j : Nat)
        · exact Or.inr ⟨q.1, w⟩
        · exact Or.inl ⟨q.1, q.2.1, by omega⟩
      · omega
/-- both ways find the most -/
theorem gl_km {t : Nat} {f : Nat → Int} (ok : ya_ok t f) : (gl_l f 7).2 = (km f (f 0).toNat).2 := by
  have hn := ok.num
  obtain ⟨s, -, -, -, -, hm⟩ := gl_lI (f := f) 7
  refine (hm.re (P' := fun z => z < (f 0).toNat) (fun z i hi hf => ?_)).eq (ku_km (f := f) (f 0).toNat).2.2
  have hs := ok.sli (i := i) hi
  have h1 := hf.2
  constructor
  · rintro (q | q)
    · exact q.1
    · omega
  · intro q
    have := ok.nn (k := z) (by omega)
    exact Or.inl ⟨q, by omega, by omega⟩
