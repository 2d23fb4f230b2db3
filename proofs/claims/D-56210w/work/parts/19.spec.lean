set_option maxRecDepth 100000
/-! WHAT EACH OPERATION DOES to the yard's numbers f: (which refusal, 0 none; the answer; the numbers behind it) -/
theorem va_upS {α : Type} (f : Nat → α) (k : Nat) (v : α) : va_up f k v k = v := by simp [va_up]
theorem va_upN {α : Type} (f : Nat → α) {k j : Nat} (v : α) (h : j ≠ k) : va_up f k v j = f j := by simp [va_up, h]
theorem va_upup {α : Type} (f : Nat → α) (k : Nat) (v w : α) : va_up (va_up f k v) k w = va_up f k w := by
  funext j
  by_cases h : j = k <;> simp [va_up, h]
theorem va_upid {α : Type} (f : Nat → α) (k : Nat) : va_up f k (f k) = f := by
  funext j
  by_cases h : j = k <;> simp [va_up, h]
def sp_hull (f : Nat → Int) : Int × Int × (Nat → Int) := if f 0 = 6 then (1, -1, f) else (0, f 0, va_up f 0 (f 0 + 1))
def sp_frame (f : Nat → Int) (z l r : Int) : Int × Int × (Nat → Int) :=
  if ¬ (0 ≤ z ∧ z < f 0) then (1, -1, f) else if ¬ ((1 ≤ l ∧ l ≤ 30) ∧ 1 ≤ r ∧ r ≤ 30) then (2, -1, f)
  else if f (21 + 28 * z.toNat) ≠ 0 ∨ f (22 + 28 * z.toNat) = 8 then (3, -1, f)
  else (0, f (22 + 28 * z.toNat) + 1,
    if 0 < ya_n f z.toNat then va_up (va_up (va_up (va_up f (25 + 28 * z.toNat + 2 * ya_n f z.toNat) l) (26 + 28 * z.toNat + 2 * ya_n f z.toNat) r) (22 + 28 * z.toNat) (f (22 + 28 * z.toNat) + 1)) (40 + 28 * z.toNat + ya_n f z.toNat) 9
    else va_up (va_up (va_up f (25 + 28 * z.toNat + 2 * ya_n f z.toNat) l) (26 + 28 * z.toNat + 2 * ya_n f z.toNat) r) (22 + 28 * z.toNat) (f (22 + 28 * z.toNat) + 1))
/-- the frames below j turned round, and how many are unlike -/
def sp_miF (f : Nat → Int) (k : Nat) : Nat → (Nat → Int)
  | 0 => f
  | j + 1 => va_up (va_up (sp_miF f k j) (25 + 28 * k + 2 * j) (sp_miF f k j (25 + 28 * k + 2 * j + 1))) (26 + 28 * k + 2 * j) (sp_miF f k j (25 + 28 * k + 2 * j + 0))
def sp_miC (f : Nat → Int) (k : Nat) : Nat → Int
  | 0 => 0
  | j + 1 => sp_miC f k j + (if sp_miF f k j (25 + 28 * k + 2 * j + 0) = sp_miF f k j (25 + 28 * k + 2 * j + 1) then 0 else 1)
def sp_mirror (f : Nat → Int) (z : Int) : Int × Int × (Nat → Int) :=
  if ¬ (0 ≤ z ∧ z < f 0) then (1, -1, f) else if f (21 + 28 * z.toNat) ≠ 0 then (2, -1, f)
  else (0, sp_miC f z.toNat (ya_n f z.toNat), sp_miF f z.toNat (ya_n f z.toNat))
def sp_cargo (f : Nat → Int) (z c : Int) : Int × Int × (Nat → Int) :=
  if ¬ (0 ≤ z ∧ z < f 0) then (1, -1, f) else if ¬ (0 ≤ c ∧ c ≤ 999) then (2, -1, f)
  else if ¬ (f (21 + 28 * z.toNat) = 0 ∨ f (21 + 28 * z.toNat) = 1) then (3, -1, f)
  else (0, f (23 + 28 * z.toNat), va_up f (23 + 28 * z.toNat) c)
/-- why a launch is refused -/
def sp_why (f : Nat → Int) (k : Nat) : Int :=
  if f (22 + 28 * k) < 2 then 1 else if ya_dr (ya_wd f k) (ya_wt f k) = -1 then 2 else if f (5 + (f 1 % 12).toNat) < ya_dr (ya_wd f k) (ya_wt f k) then 3 else 0
/-- with the reason that is noted, 0 none -/
def sp_launch (f : Nat → Int) (z : Int) : Int × Int × (Nat → Int) × Int :=
  if ¬ (0 ≤ z ∧ z < f 0) then (1, -1, f, 0) else if f (21 + 28 * z.toNat) ≠ 0 then (2, -1, f, 0)
  else if 0 < sp_why f z.toNat then (3, -1, f, sp_why f z.toNat)
  else (0, ya_dr (ya_wd f z.toNat) (ya_wt f z.toNat), va_up f (21 + 28 * z.toNat) 1, 0)
def sp_caulk (f : Nat → Int) (z y : Int) : Int × Int × (Nat → Int) :=
  if ¬ ((0 ≤ z ∧ z < f 0) ∧ 0 ≤ y ∧ y < ya_se f z.toNat) then (1, -1, f)
  else if ¬ (f (21 + 28 * z.toNat) = 0 ∨ f (21 + 28 * z.toNat) = 1) then (2, -1, f)
  else (0, f (41 + 28 * z.toNat + y.toNat), va_up f (41 + 28 * z.toNat + y.toNat) 9)
def sp_pump (f : Nat → Int) (z v : Int) : Int × Int × (Nat → Int) :=
  if ¬ (0 ≤ z ∧ z < f 0) then (1, -1, f) else if ¬ (1 ≤ v ∧ v ≤ 999) then (2, -1, f)
  else if f (21 + 28 * z.toNat) ≠ 1 then (3, -1, f)
  else (0, max 0 (f (24 + 28 * z.toNat) - v), va_up f (24 + 28 * z.toNat) (max 0 (f (24 + 28 * z.toNat) - v)))
def sp_tide (f : Nat → Int) (i v : Int) : Int × Int × (Nat → Int) :=
  if ¬ ((0 ≤ i ∧ i ≤ 11) ∧ 0 ≤ v ∧ v ≤ 50) then (1, -1, f) else (0, f (5 + i.toNat), va_up f (5 + i.toNat) v)
def sp_slip (f : Nat → Int) (i v : Int) : Int × Int × (Nat → Int) :=
  if ¬ ((0 ≤ i ∧ i ≤ 3) ∧ 0 ≤ v ∧ v ≤ 8) then (1, -1, f) else (0, f (17 + i.toNat), va_up f (17 + i.toNat) v)
/-- an hour: the water in, the caulking off, the sinking -/
def sp_h1i (f : Nat → Int) (k : Nat) : Nat → (Nat → Int)
  | 0 => f
  | s + 1 => va_up (sp_h1i f k s) (24 + 28 * k) (sp_h1i f k s (24 + 28 * k) + (9 - sp_h1i f k s (41 + 28 * k + s)))
def sp_h1 (f : Nat → Int) : Nat → (Nat → Int)
  | 0 => f
  | k + 1 => if sp_h1 f k (21 + 28 * k) = 1 then sp_h1i (sp_h1 f k) k (ya_se (sp_h1 f k) k) else sp_h1 f k
def sp_h2i (f : Nat → Int) (k : Nat) : Nat → (Nat → Int)
  | 0 => f
  | s + 1 => va_up (sp_h2i f k s) (41 + 28 * k + s) (max 0 (sp_h2i f k s (41 + 28 * k + s) - 1))
def sp_h2 (f : Nat → Int) : Nat → (Nat → Int)
  | 0 => f
  | k + 1 => if sp_h2 f k (21 + 28 * k) = 1 ∧ sp_h2 f k 1 % 6 = 0 then sp_h2i (sp_h2 f k) k (ya_se (sp_h2 f k) k) else sp_h2 f k
def sp_h3 (f : Nat → Int) : Nat → (Nat → Int) × Int
  | 0 => (f, 0)
  | k + 1 => if (sp_h3 f k).1 (21 + 28 * k) = 1 ∧ ya_dr (ya_wd (sp_h3 f k).1 k) (ya_wt (sp_h3 f k).1 k) = -1 then (va_up (sp_h3 f k).1 (21 + 28 * k) 3, (sp_h3 f k).2 + 1) else sp_h3 f k
def sp_hourA (f : Nat → Int) : Nat → Int := sp_h1 (va_up f 1 (f 1 + 1)) (f 0).toNat
def sp_hourB (f : Nat → Int) : Nat → Int := sp_h2 (sp_hourA f) (f 0).toNat
def sp_hour (f : Nat → Int) : (Nat → Int) × Int := sp_h3 (sp_hourB f) (f 0).toNat
def sp_hrs (f : Nat → Int) : Nat → (Nat → Int) × Int
  | 0 => (f, 0)
  | j + 1 => ((sp_hour (sp_hrs f j).1).1, (sp_hrs f j).2 + (sp_hour (sp_hrs f j).1).2)
def sp_pass (f : Nat → Int) (v : Int) : Int × Int × (Nat → Int) :=
  if ¬ (1 ≤ v ∧ v ≤ 99) then (1, -1, f) else (0, (sp_hrs f v.toNat).2, (sp_hrs f v.toNat).1)
def sp_order (f : Nat → Int) (a b c : Int) : Int × Int × (Nat → Int) :=
  if ¬ ((2 ≤ a ∧ a ≤ 8) ∧ (0 ≤ b ∧ b ≤ 999) ∧ 1 ≤ c ∧ c ≤ 999) then (1, -1, f) else if f 2 = 6 then (2, -1, f)
  else (0, f 3, va_up (va_up (va_up (va_up (va_up (va_up f (189 + 4 * (f 2).toNat) (f 3)) (190 + 4 * (f 2).toNat) a) (191 + 4 * (f 2).toNat) b) (192 + 4 * (f 2).toNat) c) 2 (f 2 + 1)) 3 (f 3 + 1))
/-- the place of an order, -1 none -/
def sp_fd (f : Nat → Int) (id : Int) : Nat → Nat → Int
  | _, 0 => -1
  | k, n + 1 => if f (189 + 4 * k) = id then k else sp_fd f id (k + 1) n
def sp_find (f : Nat → Int) (id : Int) : Int := sp_fd f id 0 (f 2).toNat
def sp_coins (f : Nat → Int) (k : Nat) : Int := max 0 (f (192 + 4 * k) - max 0 (f 1 - f (191 + 4 * k)))
/-- the orders behind place p move up -/
def sp_mv (f : Nat → Int) (p : Nat) : Nat → Int := fun j => if 189 + 4 * p ≤ j ∧ j < 209 then f (j + 4) else if 209 ≤ j ∧ j < 213 then 0 else f j
def sp_deliver (f : Nat → Int) (id z : Int) : Int × Int × (Nat → Int) :=
  if sp_find f id = -1 then (1, -1, f) else if ¬ (0 ≤ z ∧ z < f 0) then (2, -1, f)
  else if f (21 + 28 * z.toNat) ≠ 1 ∨ f (22 + 28 * z.toNat) ≠ f (190 + 4 * (sp_find f id).toNat) then (3, -1, f)
  else (0, sp_coins f (sp_find f id).toNat, va_up (sp_mv (va_up (va_up f 4 (f 4 + sp_coins f (sp_find f id).toNat)) (21 + 28 * z.toNat) 2) (sp_find f id).toNat) 2 (f 2 - 1))
/-- the model's numbers behind a refusal c -/
def mo_S (x : Nat → Int) (c : Int) : Nat → Int := if c = 0 then x else va_up x 9 c
theorem mo_W.eqF {h : pb_H} {o : Nat} {A : Nat → Nat} {x : Nat → Int} {F F' : Nat → Nat → Int} (hW : mo_W h o A x F) (e : F = F') : mo_W h o A x F' := e ▸ hW
theorem mo_W.eqx {h : pb_H} {o : Nat} {A : Nat → Nat} {x x' : Nat → Int} {F : Nat → Nat → Int} (hW : mo_W h o A x F) (e : x = x') : mo_W h o A x' F := e ▸ hW
