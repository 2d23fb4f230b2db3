set_option maxRecDepth 100000
/-! THE COMMON STRETCH: by the table as by trying -/
def sr_P (f : Nat → Int) (a b i j L : Nat) : Prop := ∀ s, s < L → ya_mi f a (i + s) b (j + s) = 1
theorem dp_ge (f : Nat → Int) (a b : Nat) : ∀ (L r j : Nat), sr_P f a b r j L → (L : Int) ≤ dp_e f a b (r + L) (j + L)
  | 0, r, j, _ => (dp_e_rg f a b (r + 0) (j + 0)).1
  | L + 1, r, j, h => by
    have ih := dp_ge f a b L r j (fun s hs => h s (by omega))
    show (L + 1 : Nat) ≤ (if ya_mi f a (r + L) b (j + L) = 1 then dp_e f a b (r + L) (j + L) + 1 else 0)
    rw [if_pos (h L (by omega))]
    omega
theorem dp_of (f : Nat → Int) (a b : Nat) : ∀ (r j : Nat), ∃ L : Nat, dp_e f a b r j = L ∧ L ≤ r ∧ L ≤ j ∧ sr_P f a b (r - L) (j - L) L
  | 0, j => ⟨0, by simp [dp_e], by omega, by omega, fun s hs => absurd hs (Nat.not_lt_zero _)⟩
  | r + 1, 0 => ⟨0, by simp [dp_e], by omega, by omega, fun s hs => absurd hs (Nat.not_lt_zero _)⟩
  | r + 1, j + 1 => by
    obtain ⟨L, h1, h2, h3, h4⟩ := dp_of f a b r j
    have e : dp_e f a b (r + 1) (j + 1) = if ya_mi f a r b j = 1 then dp_e f a b r j + 1 else 0 := rfl
    rw [e]
    by_cases c : ya_mi f a r b j = 1
    · rw [if_pos c]
      refine ⟨L + 1, by omega, by omega, by omega, fun s hs => ?_⟩
      rw [show r + 1 - (L + 1) = r - L by omega, show j + 1 - (L + 1) = j - L by omega]
      by_cases q : s = L
      · rw [q, show r - L + L = r by omega, show j - L + L = j by omega]; exact c
      · exact h4 s (by omega)
    · rw [if_neg c]
      exact ⟨0, rfl, by omega, by omega, fun s hs => absurd hs (Nat.not_lt_zero _)⟩
theorem ru_ge (f : Nat → Int) (a b : Nat) : ∀ (L i j m : Nat), L ≤ m → j + L ≤ ya_n f b → sr_P f a b i j L → L ≤ ya_ru f a b i j m
  | 0, _, _, _, _, _, _ => Nat.zero_le _
  | L + 1, i, j, 0, h, _, _ => absurd h (by omega)
  | L + 1, i, j, m + 1, h, h2, h3 => by
    have ih := ru_ge f a b L (i + 1) (j + 1) m (by omega) (by omega) (fun s hs => by
      have := h3 (s + 1) (by omega)
      rw [show i + (s + 1) = i + 1 + s by omega, show j + (s + 1) = j + 1 + s by omega] at this
      exact this)
    have e : ya_ru f a b i j (m + 1) = if j < ya_n f b ∧ ya_mi f a i b j = 1 then 1 + ya_ru f a b (i + 1) (j + 1) m else 0 := rfl
    rw [e, if_pos ⟨by omega, h3 0 (by omega)⟩]
    omega
theorem ru_of (f : Nat → Int) (a b : Nat) : ∀ (m i j : Nat), sr_P f a b i j (ya_ru f a b i j m) ∧ ya_ru f a b i j m ≤ m ∧ (j ≤ ya_n f b → j + ya_ru f a b i j m ≤ ya_n f b)
  | 0, _, _ => ⟨fun s hs => absurd hs (Nat.not_lt_zero _), Nat.le_refl _, fun h => h⟩
  | m + 1, i, j => by
    obtain ⟨h1, h2, h3⟩ := ru_of f a b m (i + 1) (j + 1)
    have e : ya_ru f a b i j (m + 1) = if j < ya_n f b ∧ ya_mi f a i b j = 1 then 1 + ya_ru f a b (i + 1) (j + 1) m else 0 := rfl
    rw [e]
    by_cases c : j < ya_n f b ∧ ya_mi f a i b j = 1
    · rw [if_pos c]
      refine ⟨fun s hs => ?_, by omega, fun h => by have := h3 (by omega); omega⟩
      cases s with
      | zero => exact c.2
      | succ s =>
        have := h1 s (by omega)
        rw [show i + (s + 1) = i + 1 + s by omega, show j + (s + 1) = j + 1 + s by omega]
        exact this
    · rw [if_neg c]
      exact ⟨fun s hs => absurd hs (Nat.not_lt_zero _), Nat.zero_le _, fun h => h⟩
theorem mx_ge (s : Int) (g : Nat → Int) : ∀ n : Nat, s ≤ ya_mx s g n ∧ ∀ j, j < n → g j ≤ ya_mx s g n
  | 0 => ⟨Int.le_refl _, fun j hj => absurd hj (Nat.not_lt_zero _)⟩
  | n + 1 => by
    obtain ⟨h1, h2⟩ := mx_ge s g n
    have e : ya_mx s g (n + 1) = max (ya_mx s g n) (g n) := rfl
    rw [e]
    refine ⟨by omega, fun j hj => ?_⟩
    by_cases q : j = n
    · rw [q]; omega
    · have := h2 j (by omega); omega
theorem mx_at (s : Int) (g : Nat → Int) : ∀ n : Nat, ya_mx s g n = s ∨ ∃ j, j < n ∧ ya_mx s g n = g j
  | 0 => Or.inl rfl
  | n + 1 => by
    have e : ya_mx s g (n + 1) = max (ya_mx s g n) (g n) := rfl
    rw [e]
    by_cases c : ya_mx s g n ≤ g n
    · exact Or.inr ⟨n, by omega, by omega⟩
    · rw [show max (ya_mx s g n) (g n) = ya_mx s g n by omega]
      rcases mx_at s g n with h | ⟨j, hj, h⟩
      · exact Or.inl h
      · exact Or.inr ⟨j, by omega, h⟩
theorem cs_ge (f : Nat → Int) (a b : Nat) : ∀ n : Nat, 0 ≤ ya_cs f a b n ∧ ∀ i j, i < n → j < ya_n f b → (ya_ru f a b i j (ya_n f a - i) : Int) ≤ ya_cs f a b n
  | 0 => ⟨Int.le_refl _, fun i j hi => absurd hi (Nat.not_lt_zero _)⟩
  | n + 1 => by
    obtain ⟨h1, h2⟩ := cs_ge f a b n
    obtain ⟨m1, m2⟩ := mx_ge (ya_cs f a b n) (fun j => (ya_ru f a b n j (ya_n f a - n) : Int)) (ya_n f b)
    have e : ya_cs f a b (n + 1) = ya_mx (ya_cs f a b n) (fun j => ya_ru f a b n j (ya_n f a - n)) (ya_n f b) := rfl
    rw [e]
    refine ⟨by omega, fun i j hi hj => ?_⟩
    by_cases q : i = n
    · rw [q]; exact m2 j hj
    · have := h2 i j (by omega) hj; omega
theorem cs_at (f : Nat → Int) (a b : Nat) : ∀ n : Nat, ya_cs f a b n = 0 ∨ ∃ i j, i < n ∧ j < ya_n f b ∧ ya_cs f a b n = (ya_ru f a b i j (ya_n f a - i) : Int)
  | 0 => Or.inl rfl
  | n + 1 => by
    have e : ya_cs f a b (n + 1) = ya_mx (ya_cs f a b n) (fun j => ya_ru f a b n j (ya_n f a - n)) (ya_n f b) := rfl
    rw [e]
    rcases mx_at (ya_cs f a b n) (fun j => (ya_ru f a b n j (ya_n f a - n) : Int)) (ya_n f b) with h | ⟨j, hj, h⟩
    · rw [h]
      rcases cs_at f a b n with q | ⟨i, j, hi, hj, q⟩
      · exact Or.inl q
      · exact Or.inr ⟨i, j, by omega, hj, q⟩
    · exact Or.inr ⟨n, j, by omega, hj, h⟩
theorem in_ge (f : Nat → Int) (a b : Nat) (s : Int) (r : Nat) : ∀ i : Nat, s ≤ dp_in f a b s r i ∧ ∀ q, q < i → dp_e f a b (r + 1) (ya_n f b - q) ≤ dp_in f a b s r i
  | 0 => ⟨Int.le_refl _, fun j hj => absurd hj (Nat.not_lt_zero _)⟩
  | i + 1 => by
    obtain ⟨h1, h2⟩ := in_ge f a b s r i
    rw [dp_in_s]
    refine ⟨by omega, fun q hq => ?_⟩
    by_cases c : q = i
    · rw [c]; omega
    · have := h2 q (by omega); omega
theorem in_at (f : Nat → Int) (a b : Nat) (s : Int) (r : Nat) : ∀ i : Nat, dp_in f a b s r i = s ∨ ∃ q, q < i ∧ dp_in f a b s r i = dp_e f a b (r + 1) (ya_n f b - q)
  | 0 => Or.inl rfl
  | i + 1 => by
    rw [dp_in_s]
    by_cases c : dp_in f a b s r i ≤ dp_e f a b (r + 1) (ya_n f b - i)
    · exact Or.inr ⟨i, by omega, by omega⟩
    · rw [show max (dp_in f a b s r i) (dp_e f a b (r + 1) (ya_n f b - i)) = dp_in f a b s r i by omega]
      rcases in_at f a b s r i with h | ⟨q, hq, h⟩
      · exact Or.inl h
      · exact Or.inr ⟨q, by omega, h⟩
theorem L_ge (f : Nat → Int) (a b : Nat) : ∀ n : Nat, 0 ≤ dp_L f a b n ∧ ∀ r j, r < n → 1 ≤ j → j ≤ ya_n f b → dp_e f a b (r + 1) j ≤ dp_L f a b n
  | 0 => ⟨Int.le_refl _, fun r j hr => absurd hr (Nat.not_lt_zero _)⟩
  | n + 1 => by
    obtain ⟨h1, h2⟩ := L_ge f a b n
    obtain ⟨m1, m2⟩ := in_ge f a b (dp_L f a b n) n (ya_n f b)
    have e : dp_L f a b (n + 1) = dp_in f a b (dp_L f a b n) n (ya_n f b) := rfl
    rw [e]
    refine ⟨by omega, fun r j hr hj hj2 => ?_⟩
    by_cases q : r = n
    · have := m2 (ya_n f b - j) (by omega)
      rw [show ya_n f b - (ya_n f b - j) = j by omega] at this
      rw [q]; exact this
    · have := h2 r j (by omega) hj hj2; omega
theorem L_at (f : Nat → Int) (a b : Nat) : ∀ n : Nat, dp_L f a b n = 0 ∨ ∃ r j, r < n ∧ 1 ≤ j ∧ j ≤ ya_n f b ∧ dp_L f a b n = dp_e f a b (r + 1) j
  | 0 => Or.inl rfl
  | n + 1 => by
    have e : dp_L f a b (n + 1) = dp_in f a b (dp_L f a b n) n (ya_n f b) := rfl
    rw [e]
    rcases in_at f a b (dp_L f a b n) n (ya_n f b) with h | ⟨q, hq, h⟩
    · rw [h]
      rcases L_at f a b n with z | ⟨r, j, h1, h2, h3, z⟩
      · exact Or.inl z
      · exact Or.inr ⟨r, j, by omega, h2, h3, z⟩
    · exact Or.inr ⟨n, ya_n f b - q, by omega, by omega, by omega, h⟩
theorem dp_cs (f : Nat → Int) (a b : Nat) : dp_L f a b (ya_n f a) = ya_cs f a b (ya_n f a) := by
  obtain ⟨c0, c1⟩ := cs_ge f a b (ya_n f a)
  obtain ⟨l0, l1⟩ := L_ge f a b (ya_n f a)
  have le1 : dp_L f a b (ya_n f a) ≤ ya_cs f a b (ya_n f a) := by
    rcases L_at f a b (ya_n f a) with h | ⟨r, j, h1, h2, h3, h⟩
    · omega
    · obtain ⟨L, d1, d2, d3, d4⟩ := dp_of f a b (r + 1) j
      by_cases z : L = 0
      · omega
      · have := ru_ge f a b L (r + 1 - L) (j - L) (ya_n f a - (r + 1 - L)) (by omega) (by omega) d4
        have := c1 (r + 1 - L) (j - L) (by omega) (by omega)
        omega
  have le2 : ya_cs f a b (ya_n f a) ≤ dp_L f a b (ya_n f a) := by
    rcases cs_at f a b (ya_n f a) with h | ⟨i, j, h1, h2, h⟩
    · omega
    · obtain ⟨d1, d2, d3⟩ := ru_of f a b (ya_n f a - i) i j
      by_cases z : ya_ru f a b i j (ya_n f a - i) = 0
      · omega
      · have h4 := dp_ge f a b _ i j d1
        have h5 := d3 (by omega)
        have h6 := l1 (i + ya_ru f a b i j (ya_n f a - i) - 1) (j + ya_ru f a b i j (ya_n f a - i)) (by omega) (by omega) (by omega)
        rw [show i + ya_ru f a b i j (ya_n f a - i) - 1 + 1 = i + ya_ru f a b i j (ya_n f a - i) by omega] at h6
        omega
  omega
