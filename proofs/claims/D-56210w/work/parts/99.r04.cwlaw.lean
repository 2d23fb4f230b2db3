set_option maxRecDepth 100000
/-! THE CODES counted -/
theorem ya_sum_add (a b : Nat → Int) : ∀ n : Nat, ya_sum (fun j => a j + b j) n = ya_sum a n + ya_sum b n
  | 0 => rfl
  | n + 1 => by
    rw [ya_sum_s, ya_sum_s, ya_sum_s, ya_sum_add a b n]
    omega
theorem ya_sum_0 : ∀ n : Nat, ya_sum (fun _ => 0) n = 0
  | 0 => rfl
  | n + 1 => by rw [ya_sum_s, ya_sum_0 n]; rfl
theorem ya_sum_z {g : Nat → Int} (n : Nat) (h : ∀ j, j < n → g j = 0) : ya_sum g n = 0 := by
  rw [ya_sum_eq n h, ya_sum_0]
theorem ya_sum_swap (g : Nat → Nat → Int) (n : Nat) : ∀ m : Nat, ya_sum (fun a => ya_sum (fun b => g a b) n) m = ya_sum (fun b => ya_sum (fun a => g a b) m) n
  | 0 => (ya_sum_0 n).symm
  | m + 1 => by
    rw [ya_sum_s, ya_sum_swap g n m, ← ya_sum_add]
    rfl
theorem ya_sum_h (g : Nat → Int) : ∀ n : Nat, ya_sum g (n + 1) = g 0 + ya_sum (fun j => g (j + 1)) n
  | 0 => by show 0 + g 0 = g 0 + 0; omega
  | n + 1 => by
    rw [ya_sum_s, ya_sum_h g n, ya_sum_s]
    omega
theorem ya_sum_hs (g : Nat → Int) (i n : Nat) : ya_sum (fun j => g (i + j)) (n + 1) = g i + ya_sum (fun j => g (i + 1 + j)) n := by
  rw [ya_sum_h]
  show g i + ya_sum (fun j => g (i + (j + 1))) n = _
  congr 1
  exact ya_sum_eq n (fun j _ => by rw [show i + (j + 1) = i + 1 + j by omega])
theorem ya_sum_one (v : Int) (k : Nat) : ∀ n : Nat, ya_sum (fun x => if x = k then v else 0) n = if k < n then v else 0
  | 0 => (if_neg (Nat.not_lt_zero _)).symm
  | n + 1 => by
    rw [ya_sum_s, ya_sum_one v k n]
    by_cases c : n = k
    · subst c
      rw [if_neg (by omega), if_pos (show n = n from rfl), if_pos (by omega)]
      omega
    · rw [if_neg c]
      by_cases c2 : k < n
      · rw [if_pos c2, if_pos (by omega)]; omega
      · rw [if_neg c2, if_neg (by omega)]; rfl
theorem ya_sum_mul (g : Nat → Int) : ∀ N : Nat, ya_sum g (7 * N) = ya_sum (fun c => ya_sum (fun d => g (7 * c + d)) 7) N
  | 0 => rfl
  | N + 1 => by
    rw [ya_sum_s, ← ya_sum_mul g N, show 7 * (N + 1) = 7 * N + 1 + 1 + 1 + 1 + 1 + 1 + 1 by omega]
    simp only [ya_sum_s]
    show _ = ya_sum g (7 * N) + (0 + g (7 * N + 0) + g (7 * N + 1) + g (7 * N + 2) + g (7 * N + 3) + g (7 * N + 4) + g (7 * N + 5) + g (7 * N + 6))
    rw [show 7 * N + 1 + 1 = 7 * N + 2 from rfl, show 7 * N + 2 + 1 = 7 * N + 3 from rfl, show 7 * N + 3 + 1 = 7 * N + 4 from rfl, show 7 * N + 4 + 1 = 7 * N + 5 from rfl, show 7 * N + 5 + 1 = 7 * N + 6 from rfl, show 7 * N + 0 = 7 * N from rfl]
    omega
theorem ya_sum_if (c : Prop) [Decidable c] (g : Nat → Int) (n : Nat) : ya_sum (fun j => if c then g j else 0) n = if c then ya_sum g n else 0 := by
  by_cases h : c
  · simp only [if_pos h]
  · simp only [if_neg h]; exact ya_sum_0 n
theorem cw_bit (b x i : Nat) : (b ||| 2 ^ i) / 2 ^ x % 2 = 0 ↔ (b / 2 ^ x % 2 = 0 ∧ x ≠ i) := by
  have h1 : (b ||| 2 ^ i).testBit x = (b.testBit x || decide (i = x)) := by rw [Nat.testBit_or, Nat.testBit_two_pow]
  rw [Nat.testBit_eq_decide_div_mod_eq, Nat.testBit_eq_decide_div_mod_eq] at h1
  have a1 := Nat.mod_two_eq_zero_or_one ((b ||| 2 ^ i) / 2 ^ x)
  have a2 := Nat.mod_two_eq_zero_or_one (b / 2 ^ x)
  by_cases c : i = x
  · subst c
    have h2 : decide ((b ||| 2 ^ i) / 2 ^ i % 2 = 1) = true := by rw [h1]; simp
    have h3 := of_decide_eq_true h2
    constructor
    · intro h; omega
    · intro h; exact absurd rfl h.2
  · have h2 : decide ((b ||| 2 ^ i) / 2 ^ x % 2 = 1) = decide (b / 2 ^ x % 2 = 1) := by rw [h1]; simp [c]
    have h3 : ((b ||| 2 ^ i) / 2 ^ x % 2 = 1) ↔ (b / 2 ^ x % 2 = 1) := decide_eq_decide.mp h2
    constructor
    · intro h; exact ⟨by omega, fun q => c q.symm⟩
    · intro h; have := h.1; omega
/-- without x -/
def cw_off (K : Nat → Bool) (x : Nat) : Nat → Bool := fun y => if y = x then false else K y
/-- the ways to lay l hulls out of K on the slips i, i+1, .. (m of them) out of J -/
def cw_W (f : Nat → Int) : Nat → Nat → (Nat → Bool) → (Nat → Bool) → Nat → Int
  | 0, _, _, _, l => if l = 0 then 1 else 0
  | m + 1, i, K, J, l => cw_W f m (i + 1) K J l + (if J i = true ∧ 0 < l then ya_sum (fun x => if ya_okh f i x ∧ K x = true then cw_W f m (i + 1) (cw_off K x) J (l - 1) else 0) 6 else 0)
theorem cw_W_s (f : Nat → Int) (m i : Nat) (K J : Nat → Bool) (l : Nat) : cw_W f (m + 1) i K J l = cw_W f m (i + 1) K J l + (if J i = true ∧ 0 < l then ya_sum (fun x => if ya_okh f i x ∧ K x = true then cw_W f m (i + 1) (cw_off K x) J (l - 1) else 0) 6 else 0) := rfl
theorem cw_J (f : Nat → Int) {J J' : Nat → Bool} : ∀ (m i : Nat) (K : Nat → Bool) (l : Nat), (∀ j, i ≤ j → J j = J' j) → cw_W f m i K J l = cw_W f m i K J' l
  | 0, _, _, _, _ => rfl
  | m + 1, i, K, l, h => by
    rw [cw_W_s, cw_W_s, cw_J f m (i + 1) K l (fun j hj => h j (by omega)), h i (Nat.le_refl _)]
    congr 1
    by_cases c : J' i = true ∧ 0 < l
    · rw [if_pos c, if_pos c]
      refine ya_sum_eq 6 (fun x hx => ?_)
      rw [cw_J f m (i + 1) (cw_off K x) (l - 1) (fun j hj => h j (by omega))]
    · rw [if_neg c, if_neg c]
theorem cw_none (f : Nat → Int) (J : Nat → Bool) : ∀ (m i : Nat) (K : Nat → Bool) (l : Nat), (∀ j x, ya_okh f j x → K x = false) → cw_W f m i K J l = if l = 0 then 1 else 0
  | 0, _, _, _, _ => rfl
  | m + 1, i, K, l, h => by
    rw [cw_W_s, cw_none f J m (i + 1) K l h, ya_sum_z 6 (fun x hx => if_neg (fun q => by rw [h i x q.1] at q; exact absurd q.2 (by decide)))]
    by_cases c : J i = true ∧ 0 < l
    · rw [if_pos c]; omega
    · rw [if_neg c]; omega
theorem cw_off_off (K : Nat → Bool) (x y : Nat) : cw_off (cw_off K x) y = cw_off (cw_off K y) x := by
  funext z
  unfold cw_off
  by_cases a : z = x <;> by_cases b : z = y <;> simp [a, b]
theorem cw_swap (p q : Nat → Prop) [DecidablePred p] [DecidablePred q] (c : Prop) [Decidable c] (B : Nat → Nat → Int) (n m : Nat) : ya_sum (fun x => if p x then (if c then ya_sum (fun j => if q j then B x j else 0) m else 0) else 0) n = ya_sum (fun j => if q j then (if c then ya_sum (fun x => if p x then B x j else 0) n else 0) else 0) m := by
  by_cases h : c
  · simp only [if_pos h]
    have e1 : ∀ x, (if p x then ya_sum (fun j => if q j then B x j else 0) m else 0) = ya_sum (fun j => if p x then (if q j then B x j else 0) else 0) m := fun x => (ya_sum_if (p x) _ m).symm
    have e2 : ∀ j, (if q j then ya_sum (fun x => if p x then B x j else 0) n else 0) = ya_sum (fun x => if q j then (if p x then B x j else 0) else 0) n := fun j => (ya_sum_if (q j) _ n).symm
    simp only [e1, e2]
    rw [ya_sum_swap]
    refine ya_sum_eq m (fun j _ => ya_sum_eq n (fun x _ => ?_))
    by_cases a : p x <;> by_cases b : q j <;> simp [a, b]
  · simp only [if_neg h]
    rw [ya_sum_z n (fun x _ => by split <;> rfl), ya_sum_z m (fun x _ => by split <;> rfl)]
/-- told by hull k: it lies nowhere, or on one of the slips -/
theorem cw_col (f : Nat → Int) {k : Nat} (hk : k < 6) : ∀ (m i : Nat) (K J : Nat → Bool) (l : Nat), K k = true → cw_W f m i K J l = cw_W f m i (cw_off K k) J l + (if 0 < l then ya_sum (fun j => if J (i + j) = true ∧ ya_okh f (i + j) k then cw_W f m i (cw_off K k) (cw_off J (i + j)) (l - 1) else 0) m else 0) := by
  intro m
  induction m with
  | zero =>
    intro i K J l hK
    show (if l = 0 then (1 : Int) else 0) = (if l = 0 then 1 else 0) + (if 0 < l then 0 else 0)
    rw [ite_self]
    omega
  | succ m ih =>
    intro i K J l hK
    have Kk : cw_off K k k = false := if_pos rfl
    cases l with
    | zero =>
      rw [cw_W_s, cw_W_s, ih (i + 1) K J 0 hK]
      simp only [Nat.lt_irrefl, and_false, if_false]
    | succ l =>
      have e9 : ya_sum (fun j => if J (i + j) = true ∧ ya_okh f (i + j) k then cw_W f (m + 1) i (cw_off K k) (cw_off J (i + j)) (l + 1 - 1) else 0) (m + 1) = (if J i = true ∧ ya_okh f i k then cw_W f (m + 1) i (cw_off K k) (cw_off J i) (l + 1 - 1) else 0) + ya_sum (fun j => if J (i + 1 + j) = true ∧ ya_okh f (i + 1 + j) k then cw_W f (m + 1) i (cw_off K k) (cw_off J (i + 1 + j)) (l + 1 - 1) else 0) m := ya_sum_hs (fun p => if J p = true ∧ ya_okh f p k then cw_W f (m + 1) i (cw_off K k) (cw_off J p) (l + 1 - 1) else 0) i m
      rw [cw_W_s, ih (i + 1) K J (l + 1) hK, cw_W_s f m i (cw_off K k) J (l + 1), if_pos (Nat.succ_pos l), if_pos (Nat.succ_pos l), e9]
      simp only [Nat.succ_pos, and_true, Nat.add_sub_cancel]
      by_cases c : J i = true
      · rw [if_pos c, if_pos c]
        have hx : ya_sum (fun x => if ya_okh f i x ∧ K x = true then cw_W f m (i + 1) (cw_off K x) J l else 0) 6 = ya_sum (fun x => if ya_okh f i x ∧ cw_off K k x = true then cw_W f m (i + 1) (cw_off (cw_off K k) x) J l else 0) 6 + ya_sum (fun x => if ya_okh f i x ∧ cw_off K k x = true then (if 0 < l then ya_sum (fun j => if J (i + 1 + j) = true ∧ ya_okh f (i + 1 + j) k then cw_W f m (i + 1) (cw_off (cw_off K k) x) (cw_off J (i + 1 + j)) (l - 1) else 0) m else 0) else 0) 6 + (if ya_okh f i k then cw_W f m (i + 1) (cw_off K k) J l else 0) := by
          rw [← ya_sum_add]
          have e1 := ya_sum_one (if ya_okh f i k then cw_W f m (i + 1) (cw_off K k) J l else 0) k 6
          rw [if_pos hk] at e1
          rw [← e1, ← ya_sum_add]
          refine ya_sum_eq 6 (fun x _ => ?_)
          by_cases q : x = k
          · subst q
            rw [if_neg (c := ya_okh f i x ∧ cw_off K x x = true) (fun z => by rw [Kk] at z; exact absurd z.2 (by decide)), if_neg (c := ya_okh f i x ∧ cw_off K x x = true) (fun z => by rw [Kk] at z; exact absurd z.2 (by decide)), if_pos rfl]
            by_cases w : ya_okh f i x
            · rw [if_pos ⟨w, hK⟩, if_pos w]; omega
            · rw [if_neg (fun z => w z.1), if_neg w]; omega
          · have e2 : cw_off K k x = K x := if_neg q
            rw [if_neg q, e2]
            by_cases w : ya_okh f i x ∧ K x = true
            · rw [if_pos w, if_pos w, if_pos w, ih (i + 1) (cw_off K x) J l (show (if k = x then false else K k) = true by rw [if_neg (fun z => q z.symm)]; exact hK), cw_off_off K x k]
              omega
            · rw [if_neg w, if_neg w, if_neg w]; rfl
        rw [hx, cw_swap (fun x => ya_okh f i x ∧ cw_off K k x = true) (fun j => J (i + 1 + j) = true ∧ ya_okh f (i + 1 + j) k) (0 < l)]
        have h0 : cw_W f (m + 1) i (cw_off K k) (cw_off J i) l = cw_W f m (i + 1) (cw_off K k) J l := by
          rw [cw_W_s, if_neg (fun z => by have := z.1; rw [show cw_off J i i = false from if_pos rfl] at this; exact absurd this (by decide)), Int.add_zero]
          exact cw_J f m (i + 1) _ l (fun j hj => if_neg (by omega))
        rw [h0]
        have h1 : ya_sum (fun j => if J (i + 1 + j) = true ∧ ya_okh f (i + 1 + j) k then cw_W f (m + 1) i (cw_off K k) (cw_off J (i + 1 + j)) l else 0) m = ya_sum (fun j => if J (i + 1 + j) = true ∧ ya_okh f (i + 1 + j) k then cw_W f m (i + 1) (cw_off K k) (cw_off J (i + 1 + j)) l else 0) m + ya_sum (fun j => if J (i + 1 + j) = true ∧ ya_okh f (i + 1 + j) k then (if 0 < l then ya_sum (fun x => if ya_okh f i x ∧ cw_off K k x = true then cw_W f m (i + 1) (cw_off (cw_off K k) x) (cw_off J (i + 1 + j)) (l - 1) else 0) 6 else 0) else 0) m := by
          rw [← ya_sum_add]
          refine ya_sum_eq m (fun j _ => ?_)
          by_cases w : J (i + 1 + j) = true ∧ ya_okh f (i + 1 + j) k
          · rw [if_pos w, if_pos w, if_pos w, cw_W_s]
            have e3 : cw_off J (i + 1 + j) i = true := (if_neg (by omega)).trans c
            rw [e3]
            simp only [true_and]
          · rw [if_neg w, if_neg w, if_neg w]; rfl
        rw [h1]
        simp only [c, true_and]
        omega
      · rw [if_neg c, if_neg c, if_neg (c := J i = true ∧ ya_okh f i k) (fun z => c z.1)]
        have h1 : ya_sum (fun j => if J (i + 1 + j) = true ∧ ya_okh f (i + 1 + j) k then cw_W f (m + 1) i (cw_off K k) (cw_off J (i + 1 + j)) l else 0) m = ya_sum (fun j => if J (i + 1 + j) = true ∧ ya_okh f (i + 1 + j) k then cw_W f m (i + 1) (cw_off K k) (cw_off J (i + 1 + j)) l else 0) m := by
          refine ya_sum_eq m (fun j _ => ?_)
          rw [cw_W_s, if_neg (c := cw_off J (i + 1 + j) i = true ∧ 0 < l) (fun z => by have := z.1; rw [show cw_off J (i + 1 + j) i = J i from if_neg (by omega)] at this; exact c this), Int.add_zero]
        rw [h1]
        omega
