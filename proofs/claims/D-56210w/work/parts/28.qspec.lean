set_option maxRecDepth 100000
/-! WHAT EACH QUESTION ANSWERS: (which refusal, 0 none; the answer) -/
def qs_of (f : Nat → Int) (z : Int) (w : Nat) : Int × Int := if 0 ≤ z ∧ z < f 0 then (0, f (21 + 28 * z.toNat + w)) else (1, -1)
def qs_width (f : Nat → Int) (z y b : Int) : Int × Int := if (0 ≤ z ∧ z < f 0) ∧ 0 ≤ y ∧ y < ya_n f z.toNat then (0, f (25 + 28 * z.toNat + 2 * y.toNat + (if b = 0 then 1 else 0))) else (1, -1)
def qs_caulk (f : Nat → Int) (z y : Int) : Int × Int := if (0 ≤ z ∧ z < f 0) ∧ 0 ≤ y ∧ y < ya_se f z.toNat then (0, f (41 + 28 * z.toNat + y.toNat)) else (1, -1)
def qs_weight (f : Nat → Int) (z : Int) : Int × Int := if 0 ≤ z ∧ z < f 0 then (0, ya_wt f z.toNat) else (1, -1)
def qs_draught (f : Nat → Int) (z : Int) : Int × Int := if 0 ≤ z ∧ z < f 0 then (if ya_dr (ya_wd f z.toNat) (ya_wt f z.toNat) = -1 then (2, -1) else (0, ya_dr (ya_wd f z.toNat) (ya_wt f z.toNat))) else (1, -1)
def ya_hd (f : Nat → Int) (k : Nat) (j : Nat) : Int := f (25 + 28 * k + 2 * j + 0) - f (25 + 28 * k + 2 * j + 1)
def qs_heel (f : Nat → Int) (z : Int) : Int × Int := if 0 ≤ z ∧ z < f 0 then (0, ya_sum (ya_hd f z.toNat) (ya_n f z.toNat)) else (1, -1)
/-- how many hulls are ahead of hull k -/
def ya_ah (f : Nat → Int) (k j : Nat) : Int := if 0 < ya_wt f k - ya_wt f j ∨ (ya_wt f k - ya_wt f j = 0 ∧ j < k) then 1 else 0
def ya_bef (f : Nat → Int) (k : Nat) : Int := ya_sum (ya_ah f k) (f 0).toNat
def ya_rkF (f : Nat → Int) (r : Int) : Nat → Nat → Int
  | _, 0 => -1
  | k, n + 1 => if ya_bef f k = r then k else ya_rkF f r (k + 1) n
def qs_rank (f : Nat → Int) (r : Int) : Int × Int := if ya_rkF f r 0 (f 0).toNat = -1 then (1, -1) else (0, ya_rkF f r 0 (f 0).toNat)
/-- frame i of hull a is like the reflection of frame j of hull b -/
def ya_mir (f : Nat → Int) (a i b j : Nat) : Prop := f (25 + 28 * a + 2 * i + 0) = f (25 + 28 * b + 2 * j + 1) ∧ f (25 + 28 * a + 2 * i + 1) = f (25 + 28 * b + 2 * j + 0)
def ya_mi (f : Nat → Int) (a i b j : Nat) : Int := if f (25 + 28 * a + 2 * i + 0) = f (25 + 28 * b + 2 * j + 1) ∧ f (25 + 28 * a + 2 * i + 1) = f (25 + 28 * b + 2 * j + 0) then 1 else 0
theorem ya_mi01 (f : Nat → Int) (a i b j : Nat) : ya_mi f a i b j = 0 ∨ ya_mi f a i b j = 1 := by unfold ya_mi; split <;> omega
def ya_reF (f : Nat → Int) (a b : Nat) : Nat → Nat → Int
  | _, 0 => 1
  | j, n + 1 => if ya_mi f a j b j = 1 then ya_reF f a b (j + 1) n else 0
def ya_re (f : Nat → Int) (a b : Nat) : Int := if ya_n f a = ya_n f b then ya_reF f a b 0 (ya_n f a) else 0
def qs_refl (f : Nat → Int) (z y : Int) : Int × Int := if (0 ≤ z ∧ z < f 0) ∧ 0 ≤ y ∧ y < f 0 then (0, ya_re f z.toNat y.toNat) else (1, 0)
/-- how far two stretches go on alike from frames i, j; m: the first's frames that are left -/
def ya_ru (f : Nat → Int) (a b : Nat) : Nat → Nat → Nat → Nat
  | _, _, 0 => 0
  | i, j, m + 1 => if j < ya_n f b ∧ ya_mi f a i b j = 1 then 1 + ya_ru f a b (i + 1) (j + 1) m else 0
def ya_mx (s : Int) (g : Nat → Int) : Nat → Int
  | 0 => s
  | n + 1 => max (ya_mx s g n) (g n)
def ya_cs (f : Nat → Int) (a b : Nat) : Nat → Int
  | 0 => 0
  | i + 1 => ya_mx (ya_cs f a b i) (fun j => ya_ru f a b i j (ya_n f a - i)) (ya_n f b)
def qs_common (f : Nat → Int) (z y : Int) : Int × Int := if (0 ≤ z ∧ z < f 0) ∧ 0 ≤ y ∧ y < f 0 then (0, ya_cs f z.toNat y.toNat (ya_n f z.toNat)) else (1, -1)
def qs_tide (f : Nat → Int) (v : Int) : Int × Int := if 0 ≤ v ∧ v ≤ 999 then (0, f (5 + ((f 1 + v) % 12).toNat)) else (1, -1)
/-- the first hour from n on at which the tide bears the draught -/
def ya_tl (f : Nat → Int) (d : Int) : Nat → Nat → Int
  | n, 0 => n
  | n, m + 1 => if f (5 + ((f 1 + n) % 12).toNat) < d then ya_tl f d (n + 1) m else n
def qs_launch (f : Nat → Int) (z : Int) : Int × Int :=
  if ¬ (0 ≤ z ∧ z < f 0) then (1, -1) else if f (21 + 28 * z.toNat) ≠ 0 then (2, -1)
  else if f (22 + 28 * z.toNat) < 2 ∨ ya_dr (ya_wd f z.toNat) (ya_wt f z.toNat) = -1 then (3, -1)
  else if ya_tl f (ya_dr (ya_wd f z.toNat) (ya_wt f z.toNat)) 0 12 = 12 then (3, -1) else (0, ya_tl f (ya_dr (ya_wd f z.toNat) (ya_wt f z.toNat)) 0 12)
/-- an hour for a hull alone: its weight, its caulking -/
def ya_hi (b : Bool) : Nat → Int × (Nat → Int) → Int × (Nat → Int)
  | 0, p => p
  | s + 1, p => ((ya_hi b s p).1 + (9 - (ya_hi b s p).2 s), va_up (ya_hi b s p).2 s (if b then max 0 ((ya_hi b s p).2 s - 1) else (ya_hi b s p).2 s))
def ya_sk (f : Nat → Int) (k : Nat) : Nat → Nat → Int × (Nat → Int) → Int
  | _, 0, _ => -1
  | n, m + 1, p => if ya_dr (ya_wd f k) (ya_hi (decide ((f 1 + n) % 6 = 0)) (ya_se f k) p).1 = -1 then n else ya_sk f k (n + 1) m (ya_hi (decide ((f 1 + n) % 6 = 0)) (ya_se f k) p)
def qs_sink (f : Nat → Int) (z : Int) : Int × Int :=
  if ¬ (0 ≤ z ∧ z < f 0) then (1, -1) else if f (21 + 28 * z.toNat) ≠ 1 then (2, -1)
  else if ya_sk f z.toNat 1 500 (ya_wt f z.toNat, fun s => f (41 + 28 * z.toNat + s)) = -1 then (3, -1)
  else (0, ya_sk f z.toNat 1 500 (ya_wt f z.toNat, fun s => f (41 + 28 * z.toNat + s)))
def qs_slip (f : Nat → Int) (v : Int) : Int × Int := if 0 ≤ v ∧ v ≤ 3 then (0, f (17 + v.toNat)) else (1, -1)
def qs_order (f : Nat → Int) (v : Int) : Int × Int := if 0 ≤ v ∧ v < f 2 then (0, f (189 + 4 * v.toNat)) else (1, -1)
def qs_coins (f : Nat → Int) (id : Int) : Int × Int := if sp_find f id = -1 then (1, -1) else (0, sp_coins f (sp_find f id).toNat)
def ya_bfi (f : Nat → Int) (p k : Nat) : Int := if f (190 + 4 * k) = f (190 + 4 * p) ∧ (sp_coins f p < sp_coins f k ∨ (sp_coins f k = sp_coins f p ∧ k < p)) then 1 else 0
def ya_bf (f : Nat → Int) (p : Nat) : Int := ya_sum (ya_bfi f p) (f 2).toNat
def ya_afl (f : Nat → Int) (n : Int) (k : Nat) : Int := if f (21 + 28 * k) = 1 ∧ f (22 + 28 * k) = n then 1 else 0
def ya_bdi (f : Nat → Int) (p : Nat) : Int := if ya_bf f p < ya_sum (ya_afl f (f (190 + 4 * p))) (f 0).toNat then sp_coins f p else 0
def qs_best (f : Nat → Int) : Int := ya_sum (ya_bdi f) (f 2).toNat
def ya_hin (f : Nat → Int) (v : Int) (k : Nat) : Int := if f (21 + 28 * k) = v then 1 else 0
def qs_hulls (f : Nat → Int) (v : Int) : Int × Int := if 0 ≤ v ∧ v ≤ 3 then (0, ya_sum (ya_hin f v) (f 0).toNat) else (1, -1)
