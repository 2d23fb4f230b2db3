set_option maxRecDepth 100000
/-! HOW THE YARD CHANGES -/
/-- the yard's addresses are apart (but for the empty array), and from lo on -/
def yd_J (K : co_K) (A : Nat → Nat) (n lo : Nat) : Prop := (∀ i j, i < j → j < 7 + 4 * n → A i = A j → A i = co_E K) ∧ ∀ i, i < 7 + 4 * n → lo ≤ A i ∨ A i = co_E K
theorem yd_J.ne {K : co_K} {A : Nat → Nat} {n lo i j : Nat} (hJ : yd_J K A n lo) (hi : i < 7 + 4 * n) (hj : j < 7 + 4 * n) (hij : i ≠ j) (e : A i = A j) : A i = co_E K := by
  by_cases c : i < j
  · exact hJ.1 i j c hj e
  · rw [e]
    exact hJ.1 j i (by omega) hi e.symm
theorem yd_J.up {K : co_K} {A : Nat → Nat} {n lo x p : Nat} (hJ : yd_J K A n lo) (h1 : ∀ i, i < 7 + 4 * n → A i ≠ x) (h2 : lo ≤ x) : yd_J K (va_up A p x) n lo := by
  refine ⟨fun i j hij hj e => ?_, fun i hi => ?_⟩
  · by_cases c1 : i = p
    · subst c1
      rw [va_upS, va_upN A x (by omega)] at e
      exact absurd e.symm (h1 j hj)
    · by_cases c2 : j = p
      · subst c2
        rw [va_upS, va_upN A x c1] at e
        exact absurd e (h1 i (by omega))
      · rw [va_upN A x c1, va_upN A x c2] at e
        rw [va_upN A x c1]
        exact hJ.1 i j hij hj e
  · by_cases c1 : i = p
    · subst c1
      rw [va_upS]
      exact Or.inl h2
    · rw [va_upN A x c1]
      exact hJ.2 i hi
theorem al_W.re {K : co_K} {h h' : pb_H} {a e n : Nat} {g : Nat → Nat} {P : Nat → pb_C → Prop} (hW : al_W K h a e n g) (hx : fr_P P h h') (h1 : ∀ c, h.2 a = some c → P a c) (h2 : ∀ c, h.2 e = some c → P e c) (h3 : ∀ j, j < n → ∃ ci fs, ci ≠ 12 ∧ h'.2 (g j) = some (pb_ob ci fs)) : al_W K h' a e n g := by
  obtain ⟨mc, cap, q, ho, he, hn, hc, hE, hq⟩ := hW
  exact ⟨mc, cap, q, hx.2 _ _ ho (h1 _ ho), hx.2 _ _ he (h2 _ he), hn, hc, hE, fun j hj => ⟨(hq j hj).1, h3 j hj⟩⟩
theorem hu_W.cgB {K : co_K} {h : pb_H} {B B' : Nat → Nat} {k : Nat} {f : Nat → Int} (hW : hu_W K h B k f) (hB : ∀ i, i < 4 → B' i = B i) : hu_W K h B' k f := by
  unfold hu_W at hW ⊢
  rw [hB 0 (by omega), hB 1 (by omega), hB 2 (by omega), hB 3 (by omega)]
  exact hW
/-- no cell of a hull is a frame or an order, nor the yard, nor the tides .. -/
theorem hu_W.ne {K : co_K} {h : pb_H} {B : Nat → Nat} {k : Nat} {f : Nat → Int} (hW : hu_W K h B k f) {b : Nat} {c : pb_C} (hb : h.2 b = some c) (hc : (∃ ci fs, c = pb_ob ci fs ∧ ci ≠ 5 ∧ ci ≠ 12) ∨ (∃ N g, c = pb_aI 0 N g ∧ N ≠ 8)) : ∀ i, i < 4 → b ≠ B i := by
  obtain ⟨k1, ⟨g, ⟨mc, cap, q, k2, k3, -⟩, -⟩, ⟨c2, k4, -⟩, -⟩ := hW
  intro i hi e
  subst e
  match i, hi with
  | 0, _ =>
    rw [k1] at hb
    cases hb
    rcases hc with ⟨ci, fs, e, h1, h2⟩ | ⟨N, g, e, h1⟩
    · cases e; exact h1 rfl
    · cases e
  | 1, _ =>
    rw [k2] at hb
    cases hb
    rcases hc with ⟨ci, fs, e, h1, h2⟩ | ⟨N, g, e, h1⟩
    · cases e; exact h2 rfl
    · cases e
  | 2, _ =>
    rw [k4] at hb
    cases hb
    rcases hc with ⟨ci, fs, e, h1, h2⟩ | ⟨N, g, e, h1⟩
    · cases e
    · cases e; exact h1 rfl
  | 3, _ =>
    rw [k3] at hb
    cases hb
    rcases hc with ⟨ci, fs, e, h1, h2⟩ | ⟨N, g, e, h1⟩ <;> cases e
/-- hull k changes -/
theorem yd_W.hull {K : co_K} {h h' : pb_H} {A A' : Nat → Nat} {f f' : Nat → Int} {k lo : Nat} (hW : yd_W K h A f) (h8 : ∀ j, j < (f 0).toNat → ya_n f j ≤ 8) (hJ : yd_J K A (f 0).toNat lo) (hk : k < (f 0).toNat) (hx : fr_P (fun b _ => ∀ i, i < 4 → b = A (7 + 4 * k + i) → b = co_E K) h h') (hA : ∀ i, i ≠ 7 + 4 * k + 3 → A' i = A i) (hH : hu_W K h' (fun i => A' (7 + 4 * k + i)) k f') (hf : ∀ i, i < 21 + 28 * k ∨ 49 + 28 * k ≤ i → i < 213 → f' i = f i) (h6 : (f 0).toNat ≤ 6) (h7 : (f 2).toNat ≤ 6) : yd_W K h' A' f' := by
  obtain ⟨k1, k2, k3, ⟨g, k4, k5⟩, ⟨c, k6, k7⟩, ⟨c2, k8, k9⟩, k10, k11⟩ := hW
  have hH0 := k3 k hk
  have out : ∀ i, i < 7 + 4 * (f 0).toNat → (i < 7 + 4 * k ∨ 11 + 4 * k ≤ i) → ∀ i', i' < 4 → A i = A (7 + 4 * k + i') → A i = co_E K := fun i hi h2 i' hi' e => hJ.ne hi (by omega) (by omega) e
  have fr : ∀ b ci fs, ci = 6 ∨ ci = 8 → h.2 b = some (pb_ob ci fs) → ∀ i, i < 4 → b = A (7 + 4 * k + i) → b = co_E K := fun b ci fs hc hb i hi e => absurd e (hH0.ne hb (Or.inl ⟨ci, fs, rfl, by omega, by omega⟩) i hi)
  have hu : ∀ j, j < (f 0).toNat → hu_W K h' (fun i => A' (7 + 4 * j + i)) j f' := by
    intro j hj
    by_cases c : j = k
    · subst c; exact hH
    · have q := ((k3 j hj).fr hx (fun i hi _ _ => out (7 + 4 * j + i) (by omega) (by omega)) (fun b fs hb => fr b 6 fs (Or.inl rfl) hb)).cg (g := f') (h8 j hj) (fun i hi => hf _ (by omega) (by omega))
      exact q.cgB (fun i hi => hA _ (by omega))
  have e0 : f' 0 = f 0 := hf 0 (by omega) (by omega)
  have e2 : f' 2 = f 2 := hf 2 (by omega) (by omega)
  unfold yd_W
  rw [e0, hf 1 (by omega) (by omega), hf 3 (by omega) (by omega), hf 4 (by omega) (by omega), hA 0 (by omega), hA 1 (by omega), hA 3 (by omega), hA 4 (by omega), hA 5 (by omega)]
  have a2 := hA 2 (by omega)
  have a6 := hA 6 (by omega)
  refine ⟨?_, ?_, hu, ⟨g, ?_, fun j hj => ?_⟩, ⟨c, hx.2 _ _ k6 (fun i hi e => out 3 (by omega) (by omega) i hi e), fun j hj => by rw [k7 j hj, hf _ (by omega) (by omega)]⟩, ⟨c2, hx.2 _ _ k8 (fun i hi e => out 4 (by omega) (by omega) i hi e), fun j hj => by rw [k9 j hj, hf _ (by omega) (by omega)]⟩, k10, k11⟩
  · rw [a2]
    exact hx.2 _ _ k1 (fun i hi e => out 0 (by omega) (by omega) i hi e)
  · refine al_W.re (al_W.cg k2 (fun j hj => hA _ (by omega))) hx (fun _ _ => out 1 (by omega) (by omega)) (fun _ _ => out 5 (by omega) (by omega)) (fun j hj => ?_)
    exact ⟨5, _, by decide, (hu j hj).1⟩
  · rw [a2, a6, e2]
    exact k4.fr hx (fun _ _ => out 2 (by omega) (by omega)) (fun _ _ => out 6 (by omega) (by omega)) (fun j hj ci fs hg => by
      have := k5 j hj
      rw [hg] at this
      cases this
      exact fr _ 8 _ (Or.inr rfl) hg)
  · rw [e2] at hj
    rw [hf _ (by omega) (by omega), hf _ (by omega) (by omega), hf _ (by omega) (by omega), hf _ (by omega) (by omega)]
    exact hx.2 _ _ (k5 j hj) (fr _ 8 _ (Or.inr rfl) (k5 j hj))
/-- the yard's own fields change -/
theorem yd_W.fld {K : co_K} {h h' : pb_H} {A : Nat → Nat} {f f' : Nat → Int} (hW : yd_W K h A f) (h8 : ∀ j, j < (f 0).toNat → ya_n f j ≤ 8) (hx : fr_P (fun b _ => b ≠ A 0) h h') (h0 : h'.2 (A 0) = some (pb_ob 1 [pb_r (A 1), pb_r (A 2), pb_r (A 3), pb_r (A 4), pb_i (f' 1), pb_i (f' 3), pb_j (f' 4)])) (hf : ∀ i, i ≠ 1 → i ≠ 3 → i ≠ 4 → f' i = f i) : yd_W K h' A f' := by
  obtain ⟨k1, k2, k3, ⟨g, k4, k5⟩, ⟨c, k6, k7⟩, ⟨c2, k8, k9⟩, k10, k11⟩ := hW
  have ne : ∀ b x, h.2 b = some x → (∀ fs, x ≠ pb_ob 1 fs) → b ≠ A 0 := fun b x hb hx e => by
    rw [e, k1] at hb
    cases hb
    exact hx _ rfl
  have e0 : f' 0 = f 0 := hf 0 (by omega) (by omega) (by omega)
  have e2 : f' 2 = f 2 := hf 2 (by omega) (by omega) (by omega)
  obtain ⟨mc, cap, q, m1, m2, -⟩ := id k2
  obtain ⟨mc', cap', q', m3, m4, -⟩ := id k4
  have hu : ∀ j, j < (f 0).toNat → hu_W K h' (fun i => A (7 + 4 * j + i)) j f' := by
    intro j hj
    obtain ⟨b1, ⟨gg, ⟨mm, cc, qq, b2, b3, -⟩, b4⟩, ⟨c5, b5, -⟩, -⟩ := k3 j hj
    refine ((k3 j hj).fr hx (fun i hi x hb => ?_) (fun b fs hb => ne _ _ hb (fun fs z => by cases z))).cg (g := f') (h8 j hj) (fun i hi => hf _ (by omega) (by omega) (by omega))
    match i, hi with
    | 0, _ => exact ne _ _ b1 (fun fs z => by cases z)
    | 1, _ => exact ne _ _ b2 (fun fs z => by cases z)
    | 2, _ => exact ne _ _ b5 (fun fs z => by cases z)
    | 3, _ => exact ne _ _ b3 (fun fs z => by cases z)
  unfold yd_W
  rw [e0]
  refine ⟨h0, k2.re hx (fun _ _ => ne _ _ m1 (fun fs z => by cases z)) (fun _ _ => ne _ _ m2 (fun fs z => by cases z)) (fun j hj => ⟨5, _, by decide, (hu j hj).1⟩), hu, ⟨g, ?_, fun j hj => ?_⟩, ⟨c, hx.2 _ _ k6 (ne _ _ k6 (fun fs z => by cases z)), fun j hj => by rw [k7 j hj, hf _ (by omega) (by omega) (by omega)]⟩, ⟨c2, hx.2 _ _ k8 (ne _ _ k8 (fun fs z => by cases z)), fun j hj => by rw [k9 j hj, hf _ (by omega) (by omega) (by omega)]⟩, k10, k11⟩
  · rw [e2]
    exact k4.fr hx (fun _ _ => ne _ _ m3 (fun fs z => by cases z)) (fun _ _ => ne _ _ m4 (fun fs z => by cases z)) (fun j hj ci fs hg => by
      have := k5 j hj
      rw [hg] at this
      cases this
      exact ne _ _ hg (fun fs z => by cases z))
  · rw [e2] at hj
    rw [hf _ (by omega) (by omega) (by omega), hf _ (by omega) (by omega) (by omega), hf _ (by omega) (by omega) (by omega), hf _ (by omega) (by omega) (by omega)]
    exact hx.2 _ _ (k5 j hj) (ne _ _ (k5 j hj) (fun fs z => by cases z))
/-- the tides or the slips change -/
theorem yd_W.arr {K : co_K} {h h' : pb_H} {A : Nat → Nat} {f f' : Nat → Int} {x N lo : Nat} {g0 c' : Nat → Int} (hW : yd_W K h A f) (hJ : yd_J K A (f 0).toNat lo) (h8 : ∀ j, j < (f 0).toNat → ya_n f j ≤ 8) (hN : (x = 3 ∧ N = 12) ∨ (x = 4 ∧ N = 4)) (hE : A x ≠ co_E K) (hx : fr_P (fun b _ => b ≠ A x) h h') (h0 : h.2 (A x) = some (pb_aI 0 N g0)) (h1 : h'.2 (A x) = some (pb_aI 0 N c')) (h3 : x = 3 → ∀ j, j < 12 → c' j = f' (5 + j)) (h4 : x = 4 → ∀ j, j < 4 → c' j = f' (17 + j)) (hf : ∀ i, (i < 5 ∨ 21 ≤ i) → f' i = f i) (hf3 : x ≠ 3 → ∀ i, i < 12 → f' (5 + i) = f (5 + i)) (hf4 : x ≠ 4 → ∀ i, i < 4 → f' (17 + i) = f (17 + i)) : yd_W K h' A f' := by
  obtain ⟨k1, k2, k3, ⟨g, k4, k5⟩, ⟨c, k6, k7⟩, ⟨c2, k8, k9⟩, k10, k11⟩ := hW
  have ne : ∀ b y, h.2 b = some y → (∀ g, y ≠ pb_aI 0 N g) → b ≠ A x := fun b y hb hy e => by
    rw [e, h0] at hb
    cases hb
    exact hy _ rfl
  have e0 : f' 0 = f 0 := hf 0 (by omega)
  have e2 : f' 2 = f 2 := hf 2 (by omega)
  obtain ⟨mc, cap, q, m1, m2, -⟩ := id k2
  obtain ⟨mc', cap', q', m3, m4, -⟩ := id k4
  have hu : ∀ j, j < (f 0).toNat → hu_W K h' (fun i => A (7 + 4 * j + i)) j f' := by
    intro j hj
    obtain ⟨b1, ⟨gg, ⟨mm, cc, qq, b2, b3, -⟩, b4⟩, ⟨c5, b5, -⟩, -⟩ := k3 j hj
    refine ((k3 j hj).fr hx (fun i hi x hb => ?_) (fun b fs hb => ne _ _ hb (fun fs z => by cases z))).cg (g := f') (h8 j hj) (fun i hi => hf _ (by omega))
    match i, hi with
    | 0, _ => exact ne _ _ b1 (fun fs z => by cases z)
    | 1, _ => exact ne _ _ b2 (fun fs z => by cases z)
    | 2, _ => exact ne _ _ b5 (fun fs z => by cases z; omega)
    | 3, _ => exact ne _ _ b3 (fun fs z => by cases z)
  unfold yd_W
  rw [e0, hf 1 (by omega), hf 3 (by omega), hf 4 (by omega)]
  refine ⟨hx.2 _ _ k1 (ne _ _ k1 (fun fs z => by cases z)), k2.re hx (fun _ _ => ne _ _ m1 (fun fs z => by cases z)) (fun _ _ => ne _ _ m2 (fun fs z => by cases z)) (fun j hj => ⟨5, _, by decide, (hu j hj).1⟩), hu, ⟨g, ?_, fun j hj => ?_⟩, ?_, ?_, k10, k11⟩
  · rw [e2]
    exact k4.fr hx (fun _ _ => ne _ _ m3 (fun fs z => by cases z)) (fun _ _ => ne _ _ m4 (fun fs z => by cases z)) (fun j hj ci fs hg => by
      have := k5 j hj
      rw [hg] at this
      cases this
      exact ne _ _ hg (fun fs z => by cases z))
  · rw [e2] at hj
    rw [hf _ (by omega), hf _ (by omega), hf _ (by omega), hf _ (by omega)]
    exact hx.2 _ _ (k5 j hj) (ne _ _ (k5 j hj) (fun fs z => by cases z))
  · rcases hN with ⟨rfl, rfl⟩ | ⟨rfl, rfl⟩
    · exact ⟨c', h1, h3 rfl⟩
    · exact ⟨c, hx.2 _ _ k6 (ne _ _ k6 (fun fs z => by cases z)), fun j hj => by rw [k7 j hj, hf3 (by omega) j hj]⟩
  · rcases hN with ⟨rfl, rfl⟩ | ⟨rfl, rfl⟩
    · exact ⟨c2, hx.2 _ _ k8 (ne _ _ k8 (fun fs z => by cases z)), fun j hj => by rw [k9 j hj, hf4 (by omega) j hj]⟩
    · exact ⟨c', h1, h4 rfl⟩
