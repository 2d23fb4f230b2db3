set_option maxRecDepth 100000
/-- the addresses behind a new hull B -/
def yd_A (A : Nat → Nat) (n e : Nat) (B : Nat → Nat) : Nat → Nat := fun i => if i = 5 then e else if 7 + 4 * n ≤ i then B (i - (7 + 4 * n)) else A i
theorem yd_A.lo {A B : Nat → Nat} {n e i : Nat} (h1 : i ≠ 5) (h2 : i < 7 + 4 * n) : yd_A A n e B i = A i := by unfold yd_A; rw [if_neg h1, if_neg (by omega)]
theorem yd_A.e5 {A B : Nat → Nat} {n e : Nat} : yd_A A n e B 5 = e := if_pos rfl
theorem yd_A.hi {A B : Nat → Nat} {n e i : Nat} : yd_A A n e B (7 + 4 * n + i) = B i := by unfold yd_A; rw [if_neg (by omega), if_pos (by omega), show 7 + 4 * n + i - (7 + 4 * n) = i by omega]
theorem yd_J.addH {K : co_K} {A B : Nat → Nat} {n lo e x0 : Nat} (hJ : yd_J K A n lo) (hlt : ∀ i, i < 7 + 4 * n → A i < x0) (he : e = A 5 ∨ x0 ≤ e) (hB : ∀ i, i < 4 → x0 ≤ B i ∨ B i = co_E K) (hBB : ∀ i j, i < j → j < 4 → B i = B j → B i = co_E K) (heB : ∀ i, i < 4 → e = B i → e = co_E K) (hlo : lo ≤ x0) : yd_J K (yd_A A n e B) (n + 1) lo := by
  have key : ∀ j, j < 7 + 4 * (n + 1) → j = 5 ∨ (j ≠ 5 ∧ j < 7 + 4 * n) ∨ ∃ i, i < 4 ∧ j = 7 + 4 * n + i := fun j hj => by
    by_cases c : j = 5
    · exact Or.inl c
    · by_cases c2 : j < 7 + 4 * n
      · exact Or.inr (Or.inl ⟨c, c2⟩)
      · exact Or.inr (Or.inr ⟨j - (7 + 4 * n), by omega, by omega⟩)
  refine ⟨fun i j hij hj e1 => ?_, fun i hi => ?_⟩
  · rcases key i (by omega) with c | ⟨c, c'⟩ | ⟨i', c, c'⟩ <;> rcases key j hj with d | ⟨d, d'⟩ | ⟨j', d, d'⟩
    · omega
    · subst c
      rw [yd_A.e5, yd_A.lo d d'] at e1
      rw [yd_A.e5]
      rcases he with z | z
      · rw [z] at e1 ⊢
        exact hJ.ne (by omega) d' (by omega) e1
      · have := hlt j d'; omega
    · subst c d'
      rw [yd_A.e5, yd_A.hi] at e1
      rw [yd_A.e5]
      exact heB j' d e1
    · subst d
      rw [yd_A.e5, yd_A.lo c c'] at e1
      rw [yd_A.lo c c']
      rcases he with z | z
      · rw [z] at e1
        exact hJ.ne c' (by omega) c e1
      · have := hlt i c'; omega
    · rw [yd_A.lo d d', yd_A.lo c c'] at e1
      rw [yd_A.lo c c']
      exact hJ.1 i j hij d' e1
    · subst d'
      rw [yd_A.hi, yd_A.lo c c'] at e1
      rw [yd_A.lo c c']
      have := hlt i c'
      rcases hB j' d with z | z
      · omega
      · rw [e1]; exact z
    · omega
    · omega
    · subst c' d'
      rw [yd_A.hi, yd_A.hi] at e1
      rw [yd_A.hi]
      exact hBB i' j' (by omega) d e1
  · rcases key i hi with c | ⟨c, c'⟩ | ⟨i', c, c'⟩
    · subst c
      rw [yd_A.e5]
      rcases he with z | z
      · rw [z]; exact hJ.2 5 (by omega)
      · exact Or.inl (by omega)
    · rw [yd_A.lo c c']
      exact hJ.2 i c'
    · subst c'
      rw [yd_A.hi]
      rcases hB i' c with z | z
      · exact Or.inl (by omega)
      · exact Or.inr z
/-- one hull more -/
theorem yd_W.addH {K : co_K} {h h' : pb_H} {A B : Nat → Nat} {f f' : Nat → Int} {n lo e' : Nat} (hW : yd_W K h A f) (hJ : yd_J K A (f 0).toNat lo) (hn : (f 0).toNat = n) (hx : fr_P (fun b _ => b ≠ A 1 ∧ (b ≠ A 5 ∨ b = co_E K)) h h') (hA : al_W K h' (A 1) e' (n + 1) (va_up (fun k => A (7 + 4 * k)) n (B 0))) (hH : hu_W K h' B n f') (h8 : ∀ j, j < n → ya_n f j ≤ 8) (hf : ∀ i, i ≠ 0 → (i < 21 + 28 * n ∨ 49 + 28 * n ≤ i) → f' i = f i) (hf0 : (f' 0).toNat = n + 1) (hn6 : n < 6) (hm6 : (f 2).toNat ≤ 6) (hE : A 1 ≠ co_E K) : yd_W K h' (yd_A A n e' B) f' := by
  obtain ⟨k1, k2, k3, ⟨g, k4, k5⟩, ⟨c, k6, k7⟩, ⟨c2, k8, k9⟩, k10, k11⟩ := hW
  have hP : ∀ i, i < 7 + 4 * n → i ≠ 1 → i ≠ 5 → A i ≠ A 1 ∧ (A i ≠ A 5 ∨ A i = co_E K) := fun i hi h1 h5 => by
    refine ⟨fun e => hE (hJ.ne (i := 1) (j := i) (by omega) (by omega) (by omega) e.symm), ?_⟩
    by_cases c : A i = A 5
    · exact Or.inr (hJ.ne (by omega) (by omega) h5 c)
    · exact Or.inl c
  obtain ⟨mc, cap, q, m1, m2, -⟩ := id k2
  have fr : ∀ b ci fs, ci = 6 ∨ ci = 8 → h.2 b = some (pb_ob ci fs) → b ≠ A 1 ∧ (b ≠ A 5 ∨ b = co_E K) := fun b ci fs hc hb => by
    refine ⟨fun z => ?_, Or.inl (fun z => ?_)⟩
    · rw [z, m1] at hb; cases hb; omega
    · rw [z, m2] at hb; cases hb
  have hu : ∀ j, j < n + 1 → hu_W K h' (fun i => yd_A A n e' B (7 + 4 * j + i)) j f' := by
    intro j hj
    by_cases c : j = n
    · subst c
      exact hH.cgB (fun i hi => yd_A.hi)
    · have q := ((k3 j (by omega)).fr hx (fun i hi _ _ => hP (7 + 4 * j + i) (by omega) (by omega) (by omega)) (fun b fs hb => fr b 6 fs (Or.inl rfl) hb)).cg (g := f') (h8 j (by omega)) (fun i hi => hf _ (by omega) (by omega))
      exact q.cgB (fun i hi => yd_A.lo (by omega) (by omega))
  have e2 : f' 2 = f 2 := hf 2 (by omega) (by omega)
  unfold yd_W
  rw [hf0, hf 1 (by omega) (by omega), hf 3 (by omega) (by omega), hf 4 (by omega) (by omega), yd_A.e5, yd_A.lo (i := 0) (by omega) (by omega), yd_A.lo (i := 1) (by omega) (by omega), yd_A.lo (i := 2) (by omega) (by omega), yd_A.lo (i := 3) (by omega) (by omega), yd_A.lo (i := 4) (by omega) (by omega)]
  refine ⟨hx.2 _ _ k1 (hP 0 (by omega) (by omega) (by omega)), hA.cg (fun j hj => ?_), hu, ⟨g, ?_, fun j hj => ?_⟩, ⟨c, hx.2 _ _ k6 (hP 3 (by omega) (by omega) (by omega)), fun j hj => by rw [k7 j hj, hf _ (by omega) (by omega)]⟩, ⟨c2, hx.2 _ _ k8 (hP 4 (by omega) (by omega) (by omega)), fun j hj => by rw [k9 j hj, hf _ (by omega) (by omega)]⟩, k10, k11⟩
  · by_cases c1 : j = n
    · subst c1
      rw [va_upS]
      exact yd_A.hi (i := 0)
    · rw [va_upN _ _ c1]
      exact yd_A.lo (by omega) (by omega)
  · rw [e2, yd_A.lo (i := 2) (by omega) (by omega), yd_A.lo (i := 6) (by omega) (by omega)]
    exact k4.fr hx (fun _ _ => hP 2 (by omega) (by omega) (by omega)) (fun _ _ => hP 6 (by omega) (by omega) (by omega)) (fun j hj ci fs hg => by
      have := k5 j hj
      rw [hg] at this
      cases this
      exact fr _ 8 _ (Or.inr rfl) hg)
  · rw [e2] at hj
    rw [hf _ (by omega) (by omega), hf _ (by omega) (by omega), hf _ (by omega) (by omega), hf _ (by omega) (by omega)]
    exact hx.2 _ _ (k5 j hj) (fr _ 8 _ (Or.inr rfl) (k5 j hj))
/-- other orders -/
theorem yd_W.ords {K : co_K} {h h' : pb_H} {A g' : Nat → Nat} {f f' : Nat → Int} {lo e' : Nat} (hW : yd_W K h A f) (hJ : yd_J K A (f 0).toNat lo) (hx : fr_P (fun b _ => b ≠ A 2 ∧ (b ≠ A 6 ∨ b = co_E K)) h h') (hO : yd_O K h' (va_up A 6 e') f' g') (h8 : ∀ j, j < (f 0).toNat → ya_n f j ≤ 8) (hf : ∀ i, i ≠ 2 → i < 189 → f' i = f i) (h6 : (f 0).toNat ≤ 6) (hE : A 2 ≠ co_E K) : yd_W K h' (va_up A 6 e') f' := by
  obtain ⟨k1, k2, k3, ⟨g, k4, k5⟩, ⟨c, k6, k7⟩, ⟨c2, k8, k9⟩, k10, k11⟩ := hW
  have hP : ∀ i, i < 7 + 4 * (f 0).toNat → i ≠ 2 → i ≠ 6 → A i ≠ A 2 ∧ (A i ≠ A 6 ∨ A i = co_E K) := fun i hi h1 h5 => by
    refine ⟨fun e => hE (hJ.ne (i := 2) (j := i) (by omega) (by omega) (by omega) e.symm), ?_⟩
    by_cases c : A i = A 6
    · exact Or.inr (hJ.ne (by omega) (by omega) h5 c)
    · exact Or.inl c
  obtain ⟨mc, cap, q, m1, m2, -⟩ := id k4
  have fr : ∀ b ci fs, ci = 6 ∨ ci = 8 → h.2 b = some (pb_ob ci fs) → b ≠ A 2 ∧ (b ≠ A 6 ∨ b = co_E K) := fun b ci fs hc hb => by
    refine ⟨fun z => ?_, Or.inl (fun z => ?_)⟩
    · rw [z, m1] at hb; cases hb; omega
    · rw [z, m2] at hb; cases hb
  have hu : ∀ j, j < (f 0).toNat → hu_W K h' (fun i => va_up A 6 e' (7 + 4 * j + i)) j f' := by
    intro j hj
    have q := ((k3 j (by omega)).fr hx (fun i hi _ _ => hP (7 + 4 * j + i) (by omega) (by omega) (by omega)) (fun b fs hb => fr b 6 fs (Or.inl rfl) hb)).cg (g := f') (h8 j (by omega)) (fun i hi => hf _ (by omega) (by omega))
    exact q.cgB (fun i hi => va_upN _ _ (by omega))
  have e0 : f' 0 = f 0 := hf 0 (by omega) (by omega)
  unfold yd_W
  rw [e0, hf 1 (by omega) (by omega), hf 3 (by omega) (by omega), hf 4 (by omega) (by omega), va_upN A e' (show 0 ≠ 6 by omega), va_upN A e' (show 1 ≠ 6 by omega), va_upN A e' (show 2 ≠ 6 by omega), va_upN A e' (show 3 ≠ 6 by omega), va_upN A e' (show 4 ≠ 6 by omega), va_upN A e' (show 5 ≠ 6 by omega)]
  refine ⟨hx.2 _ _ k1 (hP 0 (by omega) (by omega) (by omega)), (k2.cg (fun j hj => va_upN _ _ (by omega))).re hx (fun _ _ => hP 1 (by omega) (by omega) (by omega)) (fun _ _ => hP 5 (by omega) (by omega) (by omega)) (fun j hj => ⟨5, _, by decide, (hu j hj).1⟩), hu, ⟨g', hO⟩, ⟨c, hx.2 _ _ k6 (hP 3 (by omega) (by omega) (by omega)), fun j hj => by rw [k7 j hj, hf _ (by omega) (by omega)]⟩, ⟨c2, hx.2 _ _ k8 (hP 4 (by omega) (by omega) (by omega)), fun j hj => by rw [k9 j hj, hf _ (by omega) (by omega)]⟩, k10, k11⟩
