set_option maxRecDepth 100000
/-! THE BEST DELIVERY, taken one by one, is the sum over those that come first -/
theorem ya_sum_mono {g g' : Nat → Int} : ∀ n : Nat, (∀ j, j < n → g j ≤ g' j) → ya_sum g n ≤ ya_sum g' n
  | 0, _ => Int.le_refl _
  | n + 1, h => by
    have h1 := ya_sum_mono n (fun j hj => h j (by omega))
    have h2 := h n (by omega)
    rw [ya_sum_s, ya_sum_s]
    omega
theorem tb_s_spec (f : Nat → Int) (n : Int) (tk : Nat → Int) : ∀ j : Nat, (tb_s f n tk j = -1 → ∀ k, k < j → tk k = 0 → f (190 + 4 * k) ≠ n) ∧ (tb_s f n tk j ≠ -1 → tk (tb_s f n tk j).toNat = 0 ∧ f (190 + 4 * (tb_s f n tk j).toNat) = n ∧ ∀ k, k < j → tk k = 0 → f (190 + 4 * k) = n → k = (tb_s f n tk j).toNat ∨ sp_coins f k < sp_coins f (tb_s f n tk j).toNat ∨ (sp_coins f k = sp_coins f (tb_s f n tk j).toNat ∧ (tb_s f n tk j).toNat < k))
  | 0 => ⟨fun _ k hk => absurd hk (Nat.not_lt_zero _), fun h => absurd rfl h⟩
  | j + 1 => by
    obtain ⟨h1, h2⟩ := tb_s_spec f n tk j
    have rg := tb_s_rg f n tk j
    have e : tb_s f n tk (j + 1) = if tk j = 0 ∧ f (190 + 4 * j) = n ∧ (tb_s f n tk j = -1 ∨ sp_coins f (tb_s f n tk j).toNat < sp_coins f j) then (j : Int) else tb_s f n tk j := rfl
    rw [e]
    by_cases c : tk j = 0 ∧ f (190 + 4 * j) = n ∧ (tb_s f n tk j = -1 ∨ sp_coins f (tb_s f n tk j).toNat < sp_coins f j)
    · rw [if_pos c]
      refine ⟨fun q => by omega, fun _ => ?_⟩
      rw [Int.toNat_natCast]
      refine ⟨c.1, c.2.1, fun k hk u hf => ?_⟩
      by_cases z : k = j
      · exact Or.inl z
      · rcases c.2.2 with w | w
        · exact absurd hf (h1 w k (by omega) u)
        · by_cases w2 : tb_s f n tk j = -1
          · exact absurd hf (h1 w2 k (by omega) u)
          · rcases (h2 w2).2.2 k (by omega) u hf with v | v | v
            · rw [← v] at w; exact Or.inr (Or.inl w)
            · exact Or.inr (Or.inl (by omega))
            · exact Or.inr (Or.inl (by omega))
    · rw [if_neg c]
      refine ⟨fun q k hk u hf => ?_, fun q => ?_⟩
      · by_cases z : k = j
        · subst z; exact c ⟨u, hf, Or.inl q⟩
        · exact h1 q k (by omega) u hf
      · obtain ⟨a1, a2, a3⟩ := h2 q
        refine ⟨a1, a2, fun k hk u hf => ?_⟩
        by_cases z : k = j
        · subst z
          by_cases w : sp_coins f (tb_s f n tk k).toNat < sp_coins f k
          · exact absurd ⟨u, hf, Or.inr w⟩ c
          · by_cases w2 : sp_coins f k = sp_coins f (tb_s f n tk k).toNat
            · exact Or.inr (Or.inr ⟨w2, by omega⟩)
            · exact Or.inr (Or.inl (by omega))
        · exact a3 k (by omega) u hf
/-- k comes ahead of p -/
def bd_b (f : Nat → Int) (p k : Nat) : Prop := f (190 + 4 * k) = f (190 + 4 * p) ∧ (sp_coins f p < sp_coins f k ∨ (sp_coins f k = sp_coins f p ∧ k < p))
theorem bd_b1 {f : Nat → Int} {p k : Nat} (h : bd_b f p k) : ya_bfi f p k = 1 := if_pos h
theorem bd_b0 {f : Nat → Int} {p k : Nat} (h : ¬ bd_b f p k) : ya_bfi f p k = 0 := if_neg h
theorem bd_lt {f : Nat → Int} {x k : Nat} (h : bd_b f k x) (hx : x < (f 2).toNat) : ya_bf f x + 1 ≤ ya_bf f k := by
  have e1 := ya_sum_one 1 x (f 2).toNat
  rw [if_pos hx] at e1
  unfold ya_bf
  rw [← e1, ← ya_sum_add]
  refine ya_sum_mono _ (fun j _ => ?_)
  by_cases c : j = x
  · subst c
    rw [if_pos rfl, bd_b1 h, bd_b0 (fun q => by have := q.2; omega)]
    decide
  · rw [if_neg c]
    by_cases c2 : bd_b f x j
    · rw [bd_b1 c2, bd_b1 (⟨by rw [c2.1, h.1], by have h1 := c2.2; have h2 := h.2; omega⟩ : bd_b f k j)]
      decide
    · rw [bd_b0 c2]
      have : ya_bfi f k j = 0 ∨ ya_bfi f k j = 1 := by unfold ya_bfi; split <;> omega
      omega
theorem bd_tot {f : Nat → Int} {x k : Nat} (h : f (190 + 4 * x) = f (190 + 4 * k)) : x = k ∨ bd_b f x k ∨ bd_b f k x := by
  unfold bd_b
  by_cases c : x = k
  · exact Or.inl c
  · by_cases c1 : sp_coins f x < sp_coins f k
    · exact Or.inr (Or.inl ⟨h.symm, Or.inl c1⟩)
    · by_cases c2 : sp_coins f k < sp_coins f x
      · exact Or.inr (Or.inr ⟨h, Or.inl c2⟩)
      · by_cases c3 : k < x
        · exact Or.inr (Or.inl ⟨h.symm, Or.inr ⟨by omega, c3⟩⟩)
        · exact Or.inr (Or.inr ⟨h, Or.inr ⟨by omega, by omega⟩⟩)
theorem bd_I (f : Nat → Int) (n : Int) : ∀ r : Nat, (∀ k, k < (f 2).toNat → ((bd_t f n r).1 k = 1 ↔ (f (190 + 4 * k) = n ∧ ya_bf f k < r))) ∧ (bd_t f n r).2 = ya_sum (fun k => if f (190 + 4 * k) = n ∧ ya_bf f k < r then sp_coins f k else 0) (f 2).toNat ∧ ((∀ k, k < (f 2).toNat → f (190 + 4 * k) = n → ya_bf f k < r) ∨ ya_sum (fun k => if f (190 + 4 * k) = n ∧ ya_bf f k < r then 1 else 0) (f 2).toNat = r)
  | 0 => by
    have pos : ∀ k, 0 ≤ ya_bf f k := fun k => (ya_sum_le (g := ya_bfi f k) (B := 1) (f 2).toNat (fun j _ => by unfold ya_bfi; split <;> omega)).1
    refine ⟨fun k hk => ⟨fun h => absurd h (show ¬ (0 : Int) = 1 by decide), fun h => by have := pos k; omega⟩, ?_, Or.inr ?_⟩
    · show (0 : Int) = _
      rw [ya_sum_z _ (fun k _ => if_neg (fun h => by have := pos k; omega))]
    · rw [ya_sum_z _ (fun k _ => if_neg (fun h => by have := pos k; omega))]; rfl
  | r + 1 => by
    obtain ⟨i1, i2, i3⟩ := bd_I f n r
    obtain ⟨s1, s2⟩ := tb_s_spec f n (bd_t f n r).1 (f 2).toNat
    have rg := tb_s_rg f n (bd_t f n r).1 (f 2).toNat
    have z01 := bd_t01 f n r
    have e : bd_t f n (r + 1) = if tb_s f n (bd_t f n r).1 (f 2).toNat = -1 then bd_t f n r else (va_up (bd_t f n r).1 (tb_s f n (bd_t f n r).1 (f 2).toNat).toNat 1, (bd_t f n r).2 + sp_coins f (tb_s f n (bd_t f n r).1 (f 2).toNat).toNat) := rfl
    rw [e]
    by_cases c : tb_s f n (bd_t f n r).1 (f 2).toNat = -1
    · rw [if_pos c]
      have all : ∀ k, k < (f 2).toNat → f (190 + 4 * k) = n → ya_bf f k < r := fun k hk hf => by
        rcases z01 k with w | w
        · exact absurd hf (s1 c k hk w)
        · exact ((i1 k hk).mp w).2
      have same : ∀ k, k < (f 2).toNat → ((f (190 + 4 * k) = n ∧ ya_bf f k < r) ↔ (f (190 + 4 * k) = n ∧ ya_bf f k < (r + 1 : Nat))) := fun k hk => ⟨fun h => ⟨h.1, by have := h.2; omega⟩, fun h => ⟨h.1, all k hk h.1⟩⟩
      refine ⟨fun k hk => (i1 k hk).trans (same k hk), ?_, Or.inl (fun k hk hf => by have := all k hk hf; omega)⟩
      rw [i2]
      refine ya_sum_eq _ (fun k hk => ?_)
      by_cases w : f (190 + 4 * k) = n ∧ ya_bf f k < r
      · rw [if_pos w, if_pos ((same k hk).mp w)]
      · rw [if_neg w, if_neg (fun q => w ((same k hk).mpr q))]
    · rw [if_neg c]
      obtain ⟨a1, a2, a3⟩ := s2 c
      obtain ⟨x, hx⟩ : ∃ x : Nat, x = (tb_s f n (bd_t f n r).1 (f 2).toNat).toNat := ⟨_, rfl⟩
      rw [← hx] at a1 a2 a3 ⊢
      have hxN : x < (f 2).toNat := by omega
      have nx : ¬ ya_bf f x < r := fun q => by
        have := (i1 x hxN).mpr ⟨a2, q⟩
        omega
      have sum : ya_sum (fun k => if f (190 + 4 * k) = n ∧ ya_bf f k < r then 1 else 0) (f 2).toNat = r := by
        rcases i3 with w | w
        · exact absurd (w x hxN a2) nx
        · exact w
      have bfx : ya_bf f x = r := by
        rw [← sum]
        refine ya_sum_eq _ (fun k hk => ?_)
        by_cases w : f (190 + 4 * k) = n ∧ ya_bf f k < r
        · rw [if_pos w]
          rcases bd_tot (f := f) (x := x) (k := k) (by rw [a2, w.1]) with v | v | v
          · subst v; exact absurd w.2 nx
          · exact bd_b1 v
          · have := bd_lt v hxN; have := w.2; omega
        · rw [if_neg w]
          refine bd_b0 (fun v => ?_)
          have fk : f (190 + 4 * k) = n := by rw [v.1, a2]
          have t0 : (bd_t f n r).1 k = 0 := by
            rcases z01 k with u | u
            · exact u
            · exact absurd ((i1 k hk).mp u) w
          have v2 := v.2
          rcases a3 k hk t0 fk with u | u | u
          · subst u; omega
          · omega
          · omega
      have step : ∀ k, k < (f 2).toNat → ((f (190 + 4 * k) = n ∧ ya_bf f k < (r + 1 : Nat)) ↔ (k = x ∨ (f (190 + 4 * k) = n ∧ ya_bf f k < r))) := fun k hk => by
        constructor
        · rintro ⟨q1, q2⟩
          by_cases q3 : ya_bf f k < r
          · exact Or.inr ⟨q1, q3⟩
          · rcases bd_tot (f := f) (x := x) (k := k) (by rw [a2, q1]) with v | v | v
            · exact Or.inl v.symm
            · have := bd_lt v hk; omega
            · have := bd_lt v hxN; omega
        · rintro (q | q)
          · subst q; exact ⟨a2, by omega⟩
          · exact ⟨q.1, by have := q.2; omega⟩
      have pt : ∀ (v : Nat → Int), ya_sum (fun k => if f (190 + 4 * k) = n ∧ ya_bf f k < (r + 1 : Nat) then v k else 0) (f 2).toNat = ya_sum (fun k => if f (190 + 4 * k) = n ∧ ya_bf f k < r then v k else 0) (f 2).toNat + v x := fun v => by
        have e1 := ya_sum_one (v x) x (f 2).toNat
        rw [if_pos hxN] at e1
        rw [← e1, ← ya_sum_add]
        refine ya_sum_eq _ (fun k hk => ?_)
        by_cases q : k = x
        · subst q
          rw [if_pos ((step k hk).mpr (Or.inl rfl)), if_neg (fun w => nx w.2), if_pos rfl]; omega
        · rw [if_neg q]
          by_cases w : f (190 + 4 * k) = n ∧ ya_bf f k < r
          · rw [if_pos w, if_pos ((step k hk).mpr (Or.inr w))]; omega
          · rw [if_neg w, if_neg (fun u => by
              rcases (step k hk).mp u with u | u
              · exact q u
              · exact w u)]; rfl
      refine ⟨fun k hk => ?_, ?_, Or.inr ?_⟩
      · rw [step k hk]
        show va_up (bd_t f n r).1 x 1 k = 1 ↔ _
        by_cases q : k = x
        · subst q; rw [va_upS]; simp
        · rw [va_upN _ _ q, i1 k hk]; simp [q]
      · show (bd_t f n r).2 + sp_coins f x = _
        rw [pt (sp_coins f), i2]
      · rw [pt (fun _ => 1), sum]; omega
theorem bd_best {t : Nat} {f : Nat → Int} (ok : ya_ok t f) : bd_a f 7 = qs_best f := by
  have hn := ok.num
  have hs : ∀ j : Nat, bd_a f j = ya_sum (fun j => (bd_t f (2 + j : Nat) (ya_sum (ya_afl f (2 + j : Nat)) (f 0).toNat).toNat).2) j := fun j => by
    induction j with
    | zero => rfl
    | succ j ih => rw [ya_sum_s, ← ih]; rfl
  have pos : ∀ l : Int, 0 ≤ ya_sum (ya_afl f l) (f 0).toNat := fun l => (ya_sum_le (g := ya_afl f l) (B := 1) (f 0).toNat (fun j _ => by unfold ya_afl; split <;> omega)).1
  rw [hs]
  have e1 : ∀ j : Nat, (bd_t f (2 + j : Nat) (ya_sum (ya_afl f (2 + j : Nat)) (f 0).toNat).toNat).2 = ya_sum (fun k => if f (190 + 4 * k) = (2 + j : Nat) ∧ ya_bf f k < ya_sum (ya_afl f (2 + j : Nat)) (f 0).toNat then sp_coins f k else 0) (f 2).toNat := fun j => by
    rw [(bd_I f (2 + j : Nat) _).2.1]
    have ec : (((ya_sum (ya_afl f (2 + j : Nat)) (f 0).toNat).toNat : Nat) : Int) = ya_sum (ya_afl f (2 + j : Nat)) (f 0).toNat := by
      have := pos (2 + j : Nat)
      omega
    rw [ec]
  simp only [e1]
  rw [ya_sum_swap]
  refine ya_sum_eq _ (fun k hk => ?_)
  have ho := ok.ord (k := k) (by omega) (by omega)
  obtain ⟨j0, hj0⟩ : ∃ j0 : Nat, f (190 + 4 * k) = (2 + j0 : Nat) := ⟨(f (190 + 4 * k)).toNat - 2, by omega⟩
  have e2 := ya_sum_one (ya_bdi f k) j0 7
  rw [if_pos (by omega)] at e2
  rw [← e2]
  refine ya_sum_eq _ (fun j hj => ?_)
  by_cases c : j = j0
  · subst c
    rw [if_pos rfl]
    unfold ya_bdi
    rw [hj0]
    simp only [true_and]
  · rw [if_neg c, if_neg (fun z => by have := z.1; omega)]
