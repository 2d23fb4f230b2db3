set_option maxRecDepth 100000
/-! THE MODEL'S CONSTRUCTOR -/
def mo_blank : List pb_V := [pb_0, pb_0, pb_0, pb_i 0, pb_0, pb_i 0, pb_i 0, pb_i 0, pb_i 0, pb_i 0, pb_0, pb_i 0, pb_0, pb_i 0, pb_j 0, pb_0, pb_i 0, pb_0, pb_0, pb_0, pb_i 0, pb_i 0, pb_i 0, pb_i 0]
def mo_A0 (b : Nat) (i : Nat) : Nat := b + (match i with
  | 0 => 0
  | 1 => 1
  | 2 => 2
  | 4 => 3
  | 10 => 4
  | 12 => 5
  | 15 => 6
  | 17 => 7
  | 18 => 8
  | _ => 9)
def mo_x0 : Nat → Int := fun i => if i = 6 ∨ i = 7 then -1 else 0
/-- the tides' heights, the slips' lengths at the start -/
def ya_td (i : Nat) : Int := if i ≤ 6 then 4 * i else 4 * (12 - i)
def ya_t0 (n : Nat) : Nat → Int := fun j => if 5 ≤ j ∧ j < 5 + n then ya_td (j - 5) else 0
def ya_s0 (n : Nat) : Nat → Int := fun j => if 17 ≤ j ∧ j < 17 + n then 2 * ((j - 17 : Nat) : Int) + 2 else ya_t0 12 j
/-- the yard's numbers at the start -/
def ya_0 : Nat → Int := ya_s0 4
def mo_z : Nat → Int := fun _ => 0
def pa_bgI (j : Nat) : Int := (pa_beg j : Nat)
theorem pa_let_cp : mo_cp pa_let mo_z 66 = pa_let := by
  funext j
  unfold mo_cp mo_z
  split
  · rfl
  · next c =>
    have e : pa_ll[j]? = none := List.getElem?_eq_none (by have : pa_ll.length = 66 := rfl; omega)
    unfold pa_let
    rw [List.getD_eq_getElem?_getD, e]
    rfl
def mo_F0 : Nat → Nat → Int := fun i => match i with
  | 0 => ya_0
  | 17 => pa_let
  | 18 => mo_cp pa_bgI mo_z 12
  | _ => mo_z
section MODEL20
variable {G : pb_G} {h : pb_H} {o : Nat}
theorem ya_t0_s (n : Nat) : va_up (ya_t0 n) (5 + n) (ya_td n) = ya_t0 (n + 1) := by
  funext j
  unfold ya_t0
  by_cases h : j = 5 + n
  · subst h
    rw [va_upS, if_pos (by omega)]
    congr 1
    omega
  · rw [va_upN _ _ h]
    by_cases h2 : 5 ≤ j ∧ j < 5 + n
    · rw [if_pos h2, if_pos (by omega)]
    · rw [if_neg h2, if_neg (by omega)]
theorem ya_s0_s (n : Nat) : va_up (ya_s0 n) (17 + n) (2 * (n : Int) + 2) = ya_s0 (n + 1) := by
  funext j
  unfold ya_s0
  by_cases h : j = 17 + n
  · subst h
    rw [va_upS, if_pos (by omega)]
    congr 2
    omega
  · rw [va_upN _ _ h]
    by_cases h2 : 17 ≤ j ∧ j < 17 + n
    · rw [if_pos h2, if_pos (by omega)]
    · rw [if_neg h2, if_neg (by omega)]
theorem ya_t0_0 : ya_t0 0 = mo_z := by
  funext j
  unfold ya_t0
  rw [if_neg (by omega)]
  rfl
theorem ya_s0_0 : ya_s0 0 = ya_t0 12 := by
  funext j
  unfold ya_s0
  rw [if_neg (by omega)]
/-- what the constructor leaves -/
def mo_made (h : pb_H) (o : Nat) (h' : pb_H) : Prop := mo_W h' o (mo_A0 h.1) mo_x0 mo_F0 ∧ h'.1 = h.1 + 10 ∧ ∀ b, b ≠ o → b < h.1 → h'.2 b = h.2 b
theorem mo_init (ho : o < h.1) (hb : h.2 o = some (pb_ob 3 mo_blank)) : pb_Ctr G mX4_init 2 10 2833 [pb_r o] h (fun oc h' => oc = .inl none ∧ mo_made h o h') := by
  have hR := pb_reg.start ho hb
  refine pb_Ctr.of rfl rfl rfl tX4_init_ok rfl ?_
  (try refine pb_Ex.run rfl ?_)
  refine pb_Ex.objI rfl rfl rfl (by omega) ?_
  refine pb_Ex.run rfl ?_
  refine pb_Ex.rNewI 213 0 rfl rfl (by omega) hR rfl (by omega) (by omega) (fun h1 hR => ?_)
  (try refine pb_Ex.run rfl ?_)
  refine pb_Ex.rPutF rfl rfl hR rfl (fun r hr => by cases hr; rfl) rfl (by first | trivial | exact Or.inl rfl | exact Or.inr rfl | (show _ ∨ _; omega) | (show _ ∧ _; omega)) (fun h1 hR => ?_)
  (try refine pb_Ex.run rfl ?_)
  refine pb_Ex.rNewI 213 1 rfl rfl (by omega) hR rfl (by omega) (by omega) (fun h1 hR => ?_)
  (try refine pb_Ex.run rfl ?_)
  refine pb_Ex.rPutF rfl rfl hR rfl (fun r hr => by cases hr; rfl) rfl (by first | trivial | exact Or.inl rfl | exact Or.inr rfl | (show _ ∨ _; omega) | (show _ ∧ _; omega)) (fun h1 hR => ?_)
  (try refine pb_Ex.run rfl ?_)
  refine pb_Ex.rNewI 213 2 rfl rfl (by omega) hR rfl (by omega) (by omega) (fun h1 hR => ?_)
  (try refine pb_Ex.run rfl ?_)
  refine pb_Ex.rPutF rfl rfl hR rfl (fun r hr => by cases hr; rfl) rfl (by first | trivial | exact Or.inl rfl | exact Or.inr rfl | (show _ ∨ _; omega) | (show _ ∧ _; omega)) (fun h1 hR => ?_)
  (try refine pb_Ex.run rfl ?_)
  refine pb_Ex.rNewI 1704 3 rfl rfl (by omega) hR rfl (by omega) (by omega) (fun h1 hR => ?_)
  (try refine pb_Ex.run rfl ?_)
  refine pb_Ex.rPutF rfl rfl hR rfl (fun r hr => by cases hr; rfl) rfl (by first | trivial | exact Or.inl rfl | exact Or.inr rfl | (show _ ∨ _; omega) | (show _ ∧ _; omega)) (fun h1 hR => ?_)
  (try refine pb_Ex.run rfl ?_)
  refine pb_Ex.rPutF rfl rfl hR rfl (fun r hr => by cases hr; rfl) rfl (by first | trivial | exact Or.inl rfl | exact Or.inr rfl | (show _ ∨ _; omega) | (show _ ∧ _; omega)) (fun h1 hR => ?_)
  (try refine pb_Ex.run rfl ?_)
  refine pb_Ex.rPutF rfl rfl hR rfl (fun r hr => by cases hr; rfl) rfl (by first | trivial | exact Or.inl rfl | exact Or.inr rfl | (show _ ∨ _; omega) | (show _ ∧ _; omega)) (fun h1 hR => ?_)
  (try refine pb_Ex.run rfl ?_)
  refine pb_Ex.rNewI 60 4 rfl rfl (by omega) hR rfl (by omega) (by omega) (fun h1 hR => ?_)
  (try refine pb_Ex.run rfl ?_)
  refine pb_Ex.rPutF rfl rfl hR rfl (fun r hr => by cases hr; rfl) rfl (by first | trivial | exact Or.inl rfl | exact Or.inr rfl | (show _ ∨ _; omega) | (show _ ∧ _; omega)) (fun h1 hR => ?_)
  (try refine pb_Ex.run rfl ?_)
  refine pb_Ex.rNewI 8 5 rfl rfl (by omega) hR rfl (by omega) (by omega) (fun h1 hR => ?_)
  (try refine pb_Ex.run rfl ?_)
  refine pb_Ex.rPutF rfl rfl hR rfl (fun r hr => by cases hr; rfl) rfl (by first | trivial | exact Or.inl rfl | exact Or.inr rfl | (show _ ∨ _; omega) | (show _ ∧ _; omega)) (fun h1 hR => ?_)
  (try refine pb_Ex.run rfl ?_)
  refine pb_Ex.rNewI 100 6 rfl rfl (by omega) hR rfl (by omega) (by omega) (fun h1 hR => ?_)
  (try refine pb_Ex.run rfl ?_)
  refine pb_Ex.rPutF rfl rfl hR rfl (fun r hr => by cases hr; rfl) rfl (by first | trivial | exact Or.inl rfl | exact Or.inr rfl | (show _ ∨ _; omega) | (show _ ∧ _; omega)) (fun h1 hR => ?_)
  (try refine pb_Ex.run rfl ?_)
  refine pb_Ex.rNewC 66 7 rfl rfl (by omega) hR rfl (by omega) (by omega) (fun h1 hR => ?_)
  (try refine pb_Ex.run rfl ?_)
  refine pb_Ex.rRowC (f := pa_let) (g := mo_z) 7 0 rfl hR rfl (mo_cp_0 pa_let mo_z).symm rfl (by omega) rfl (by omega) (fun h1 hR => ?_)
  (try refine pb_Ex.run rfl ?_)
  refine pb_Ex.rRowC (f := pa_let) (g := mo_z) 7 1 rfl hR rfl rfl rfl (by omega) rfl (by omega) (fun h1 hR => ?_)
  (try refine pb_Ex.run rfl ?_)
  refine pb_Ex.rRowC (f := pa_let) (g := mo_z) 7 2 rfl hR rfl rfl rfl (by omega) rfl (by omega) (fun h1 hR => ?_)
  (try refine pb_Ex.run rfl ?_)
  refine pb_Ex.rRowC (f := pa_let) (g := mo_z) 7 3 rfl hR rfl rfl rfl (by omega) rfl (by omega) (fun h1 hR => ?_)
  (try refine pb_Ex.run rfl ?_)
  refine pb_Ex.rRowC (f := pa_let) (g := mo_z) 7 4 rfl hR rfl rfl rfl (by omega) rfl (by omega) (fun h1 hR => ?_)
  (try refine pb_Ex.run rfl ?_)
  refine pb_Ex.rRowC (f := pa_let) (g := mo_z) 7 5 rfl hR rfl rfl rfl (by omega) rfl (by omega) (fun h1 hR => ?_)
  (try refine pb_Ex.run rfl ?_)
  refine pb_Ex.rRowC (f := pa_let) (g := mo_z) 7 6 rfl hR rfl rfl rfl (by omega) rfl (by omega) (fun h1 hR => ?_)
  (try refine pb_Ex.run rfl ?_)
  refine pb_Ex.rRowC (f := pa_let) (g := mo_z) 7 7 rfl hR rfl rfl rfl (by omega) rfl (by omega) (fun h1 hR => ?_)
  (try refine pb_Ex.run rfl ?_)
  refine pb_Ex.rRowC (f := pa_let) (g := mo_z) 7 8 rfl hR rfl rfl rfl (by omega) rfl (by omega) (fun h1 hR => ?_)
  (try refine pb_Ex.run rfl ?_)
  refine pb_Ex.rRowC (f := pa_let) (g := mo_z) 7 9 rfl hR rfl rfl rfl (by omega) rfl (by omega) (fun h1 hR => ?_)
  (try refine pb_Ex.run rfl ?_)
  refine pb_Ex.rRowC (f := pa_let) (g := mo_z) 7 10 rfl hR rfl rfl rfl (by omega) rfl (by omega) (fun h1 hR => ?_)
  (try refine pb_Ex.run rfl ?_)
  refine pb_Ex.rRowC (f := pa_let) (g := mo_z) 7 11 rfl hR rfl rfl rfl (by omega) rfl (by omega) (fun h1 hR => ?_)
  (try refine pb_Ex.run rfl ?_)
  refine pb_Ex.rRowC (f := pa_let) (g := mo_z) 7 12 rfl hR rfl rfl rfl (by omega) rfl (by omega) (fun h1 hR => ?_)
  (try refine pb_Ex.run rfl ?_)
  refine pb_Ex.rRowC (f := pa_let) (g := mo_z) 7 13 rfl hR rfl rfl rfl (by omega) rfl (by omega) (fun h1 hR => ?_)
  (try refine pb_Ex.run rfl ?_)
  refine pb_Ex.rRowC (f := pa_let) (g := mo_z) 7 14 rfl hR rfl rfl rfl (by omega) rfl (by omega) (fun h1 hR => ?_)
  (try refine pb_Ex.run rfl ?_)
  refine pb_Ex.rRowC (f := pa_let) (g := mo_z) 7 15 rfl hR rfl rfl rfl (by omega) rfl (by omega) (fun h1 hR => ?_)
  (try refine pb_Ex.run rfl ?_)
  refine pb_Ex.rRowC (f := pa_let) (g := mo_z) 7 16 rfl hR rfl rfl rfl (by omega) rfl (by omega) (fun h1 hR => ?_)
  (try refine pb_Ex.run rfl ?_)
  refine pb_Ex.rRowC (f := pa_let) (g := mo_z) 7 17 rfl hR rfl rfl rfl (by omega) rfl (by omega) (fun h1 hR => ?_)
  (try refine pb_Ex.run rfl ?_)
  refine pb_Ex.rRowC (f := pa_let) (g := mo_z) 7 18 rfl hR rfl rfl rfl (by omega) rfl (by omega) (fun h1 hR => ?_)
  (try refine pb_Ex.run rfl ?_)
  refine pb_Ex.rRowC (f := pa_let) (g := mo_z) 7 19 rfl hR rfl rfl rfl (by omega) rfl (by omega) (fun h1 hR => ?_)
  (try refine pb_Ex.run rfl ?_)
  refine pb_Ex.rRowC (f := pa_let) (g := mo_z) 7 20 rfl hR rfl rfl rfl (by omega) rfl (by omega) (fun h1 hR => ?_)
  (try refine pb_Ex.run rfl ?_)
  refine pb_Ex.rRowC (f := pa_let) (g := mo_z) 7 21 rfl hR rfl rfl rfl (by omega) rfl (by omega) (fun h1 hR => ?_)
  (try refine pb_Ex.run rfl ?_)
  refine pb_Ex.rRowC (f := pa_let) (g := mo_z) 7 22 rfl hR rfl rfl rfl (by omega) rfl (by omega) (fun h1 hR => ?_)
  (try refine pb_Ex.run rfl ?_)
  refine pb_Ex.rRowC (f := pa_let) (g := mo_z) 7 23 rfl hR rfl rfl rfl (by omega) rfl (by omega) (fun h1 hR => ?_)
  (try refine pb_Ex.run rfl ?_)
  refine pb_Ex.rRowC (f := pa_let) (g := mo_z) 7 24 rfl hR rfl rfl rfl (by omega) rfl (by omega) (fun h1 hR => ?_)
  (try refine pb_Ex.run rfl ?_)
  refine pb_Ex.rRowC (f := pa_let) (g := mo_z) 7 25 rfl hR rfl rfl rfl (by omega) rfl (by omega) (fun h1 hR => ?_)
  (try refine pb_Ex.run rfl ?_)
  refine pb_Ex.rRowC (f := pa_let) (g := mo_z) 7 26 rfl hR rfl rfl rfl (by omega) rfl (by omega) (fun h1 hR => ?_)
  (try refine pb_Ex.run rfl ?_)
  refine pb_Ex.rRowC (f := pa_let) (g := mo_z) 7 27 rfl hR rfl rfl rfl (by omega) rfl (by omega) (fun h1 hR => ?_)
  (try refine pb_Ex.run rfl ?_)
  refine pb_Ex.rRowC (f := pa_let) (g := mo_z) 7 28 rfl hR rfl rfl rfl (by omega) rfl (by omega) (fun h1 hR => ?_)
  (try refine pb_Ex.run rfl ?_)
  refine pb_Ex.rRowC (f := pa_let) (g := mo_z) 7 29 rfl hR rfl rfl rfl (by omega) rfl (by omega) (fun h1 hR => ?_)
  (try refine pb_Ex.run rfl ?_)
  refine pb_Ex.rRowC (f := pa_let) (g := mo_z) 7 30 rfl hR rfl rfl rfl (by omega) rfl (by omega) (fun h1 hR => ?_)
  (try refine pb_Ex.run rfl ?_)
  refine pb_Ex.rRowC (f := pa_let) (g := mo_z) 7 31 rfl hR rfl rfl rfl (by omega) rfl (by omega) (fun h1 hR => ?_)
  (try refine pb_Ex.run rfl ?_)
  refine pb_Ex.rRowC (f := pa_let) (g := mo_z) 7 32 rfl hR rfl rfl rfl (by omega) rfl (by omega) (fun h1 hR => ?_)
  (try refine pb_Ex.run rfl ?_)
  refine pb_Ex.rRowC (f := pa_let) (g := mo_z) 7 33 rfl hR rfl rfl rfl (by omega) rfl (by omega) (fun h1 hR => ?_)
  (try refine pb_Ex.run rfl ?_)
  refine pb_Ex.rRowC (f := pa_let) (g := mo_z) 7 34 rfl hR rfl rfl rfl (by omega) rfl (by omega) (fun h1 hR => ?_)
  (try refine pb_Ex.run rfl ?_)
  refine pb_Ex.rRowC (f := pa_let) (g := mo_z) 7 35 rfl hR rfl rfl rfl (by omega) rfl (by omega) (fun h1 hR => ?_)
  (try refine pb_Ex.run rfl ?_)
  refine pb_Ex.rRowC (f := pa_let) (g := mo_z) 7 36 rfl hR rfl rfl rfl (by omega) rfl (by omega) (fun h1 hR => ?_)
  (try refine pb_Ex.run rfl ?_)
  refine pb_Ex.rRowC (f := pa_let) (g := mo_z) 7 37 rfl hR rfl rfl rfl (by omega) rfl (by omega) (fun h1 hR => ?_)
  (try refine pb_Ex.run rfl ?_)
  refine pb_Ex.rRowC (f := pa_let) (g := mo_z) 7 38 rfl hR rfl rfl rfl (by omega) rfl (by omega) (fun h1 hR => ?_)
  (try refine pb_Ex.run rfl ?_)
  refine pb_Ex.rRowC (f := pa_let) (g := mo_z) 7 39 rfl hR rfl rfl rfl (by omega) rfl (by omega) (fun h1 hR => ?_)
  (try refine pb_Ex.run rfl ?_)
  refine pb_Ex.rRowC (f := pa_let) (g := mo_z) 7 40 rfl hR rfl rfl rfl (by omega) rfl (by omega) (fun h1 hR => ?_)
  (try refine pb_Ex.run rfl ?_)
  refine pb_Ex.rRowC (f := pa_let) (g := mo_z) 7 41 rfl hR rfl rfl rfl (by omega) rfl (by omega) (fun h1 hR => ?_)
  (try refine pb_Ex.run rfl ?_)
  refine pb_Ex.rRowC (f := pa_let) (g := mo_z) 7 42 rfl hR rfl rfl rfl (by omega) rfl (by omega) (fun h1 hR => ?_)
  (try refine pb_Ex.run rfl ?_)
  refine pb_Ex.rRowC (f := pa_let) (g := mo_z) 7 43 rfl hR rfl rfl rfl (by omega) rfl (by omega) (fun h1 hR => ?_)
  (try refine pb_Ex.run rfl ?_)
  refine pb_Ex.rRowC (f := pa_let) (g := mo_z) 7 44 rfl hR rfl rfl rfl (by omega) rfl (by omega) (fun h1 hR => ?_)
  (try refine pb_Ex.run rfl ?_)
  refine pb_Ex.rRowC (f := pa_let) (g := mo_z) 7 45 rfl hR rfl rfl rfl (by omega) rfl (by omega) (fun h1 hR => ?_)
  (try refine pb_Ex.run rfl ?_)
  refine pb_Ex.rRowC (f := pa_let) (g := mo_z) 7 46 rfl hR rfl rfl rfl (by omega) rfl (by omega) (fun h1 hR => ?_)
  (try refine pb_Ex.run rfl ?_)
  refine pb_Ex.rRowC (f := pa_let) (g := mo_z) 7 47 rfl hR rfl rfl rfl (by omega) rfl (by omega) (fun h1 hR => ?_)
  (try refine pb_Ex.run rfl ?_)
  refine pb_Ex.rRowC (f := pa_let) (g := mo_z) 7 48 rfl hR rfl rfl rfl (by omega) rfl (by omega) (fun h1 hR => ?_)
  (try refine pb_Ex.run rfl ?_)
  refine pb_Ex.rRowC (f := pa_let) (g := mo_z) 7 49 rfl hR rfl rfl rfl (by omega) rfl (by omega) (fun h1 hR => ?_)
  (try refine pb_Ex.run rfl ?_)
  refine pb_Ex.rRowC (f := pa_let) (g := mo_z) 7 50 rfl hR rfl rfl rfl (by omega) rfl (by omega) (fun h1 hR => ?_)
  (try refine pb_Ex.run rfl ?_)
  refine pb_Ex.rRowC (f := pa_let) (g := mo_z) 7 51 rfl hR rfl rfl rfl (by omega) rfl (by omega) (fun h1 hR => ?_)
  (try refine pb_Ex.run rfl ?_)
  refine pb_Ex.rRowC (f := pa_let) (g := mo_z) 7 52 rfl hR rfl rfl rfl (by omega) rfl (by omega) (fun h1 hR => ?_)
  (try refine pb_Ex.run rfl ?_)
  refine pb_Ex.rRowC (f := pa_let) (g := mo_z) 7 53 rfl hR rfl rfl rfl (by omega) rfl (by omega) (fun h1 hR => ?_)
  (try refine pb_Ex.run rfl ?_)
  refine pb_Ex.rRowC (f := pa_let) (g := mo_z) 7 54 rfl hR rfl rfl rfl (by omega) rfl (by omega) (fun h1 hR => ?_)
  (try refine pb_Ex.run rfl ?_)
  refine pb_Ex.rRowC (f := pa_let) (g := mo_z) 7 55 rfl hR rfl rfl rfl (by omega) rfl (by omega) (fun h1 hR => ?_)
  (try refine pb_Ex.run rfl ?_)
  refine pb_Ex.rRowC (f := pa_let) (g := mo_z) 7 56 rfl hR rfl rfl rfl (by omega) rfl (by omega) (fun h1 hR => ?_)
  (try refine pb_Ex.run rfl ?_)
  refine pb_Ex.rRowC (f := pa_let) (g := mo_z) 7 57 rfl hR rfl rfl rfl (by omega) rfl (by omega) (fun h1 hR => ?_)
  (try refine pb_Ex.run rfl ?_)
  refine pb_Ex.rRowC (f := pa_let) (g := mo_z) 7 58 rfl hR rfl rfl rfl (by omega) rfl (by omega) (fun h1 hR => ?_)
  (try refine pb_Ex.run rfl ?_)
  refine pb_Ex.rRowC (f := pa_let) (g := mo_z) 7 59 rfl hR rfl rfl rfl (by omega) rfl (by omega) (fun h1 hR => ?_)
  (try refine pb_Ex.run rfl ?_)
  refine pb_Ex.rRowC (f := pa_let) (g := mo_z) 7 60 rfl hR rfl rfl rfl (by omega) rfl (by omega) (fun h1 hR => ?_)
  (try refine pb_Ex.run rfl ?_)
  refine pb_Ex.rRowC (f := pa_let) (g := mo_z) 7 61 rfl hR rfl rfl rfl (by omega) rfl (by omega) (fun h1 hR => ?_)
  (try refine pb_Ex.run rfl ?_)
  refine pb_Ex.rRowC (f := pa_let) (g := mo_z) 7 62 rfl hR rfl rfl rfl (by omega) rfl (by omega) (fun h1 hR => ?_)
  (try refine pb_Ex.run rfl ?_)
  refine pb_Ex.rRowC (f := pa_let) (g := mo_z) 7 63 rfl hR rfl rfl rfl (by omega) rfl (by omega) (fun h1 hR => ?_)
  (try refine pb_Ex.run rfl ?_)
  refine pb_Ex.rRowC (f := pa_let) (g := mo_z) 7 64 rfl hR rfl rfl rfl (by omega) rfl (by omega) (fun h1 hR => ?_)
  (try refine pb_Ex.run rfl ?_)
  refine pb_Ex.rRowC (f := pa_let) (g := mo_z) 7 65 rfl hR rfl rfl rfl (by omega) rfl (by omega) (fun h1 hR => ?_)
  (try refine pb_Ex.run rfl ?_)
  refine pb_Ex.rPutF rfl rfl hR rfl (fun r hr => by cases hr; rfl) rfl (by first | trivial | exact Or.inl rfl | exact Or.inr rfl | (show _ ∨ _; omega) | (show _ ∧ _; omega)) (fun h1 hR => ?_)
  (try refine pb_Ex.run rfl ?_)
  refine pb_Ex.rNewI 12 8 rfl rfl (by omega) hR rfl (by omega) (by omega) (fun h1 hR => ?_)
  (try refine pb_Ex.run rfl ?_)
  refine pb_Ex.rRowI (f := pa_bgI) (g := mo_z) 8 0 rfl hR rfl (mo_cp_0 pa_bgI mo_z).symm rfl (by omega) rfl (fun h1 hR => ?_)
  (try refine pb_Ex.run rfl ?_)
  refine pb_Ex.rRowI (f := pa_bgI) (g := mo_z) 8 1 rfl hR rfl rfl rfl (by omega) rfl (fun h1 hR => ?_)
  (try refine pb_Ex.run rfl ?_)
  refine pb_Ex.rRowI (f := pa_bgI) (g := mo_z) 8 2 rfl hR rfl rfl rfl (by omega) rfl (fun h1 hR => ?_)
  (try refine pb_Ex.run rfl ?_)
  refine pb_Ex.rRowI (f := pa_bgI) (g := mo_z) 8 3 rfl hR rfl rfl rfl (by omega) rfl (fun h1 hR => ?_)
  (try refine pb_Ex.run rfl ?_)
  refine pb_Ex.rRowI (f := pa_bgI) (g := mo_z) 8 4 rfl hR rfl rfl rfl (by omega) rfl (fun h1 hR => ?_)
  (try refine pb_Ex.run rfl ?_)
  refine pb_Ex.rRowI (f := pa_bgI) (g := mo_z) 8 5 rfl hR rfl rfl rfl (by omega) rfl (fun h1 hR => ?_)
  (try refine pb_Ex.run rfl ?_)
  refine pb_Ex.rRowI (f := pa_bgI) (g := mo_z) 8 6 rfl hR rfl rfl rfl (by omega) rfl (fun h1 hR => ?_)
  (try refine pb_Ex.run rfl ?_)
  refine pb_Ex.rRowI (f := pa_bgI) (g := mo_z) 8 7 rfl hR rfl rfl rfl (by omega) rfl (fun h1 hR => ?_)
  (try refine pb_Ex.run rfl ?_)
  refine pb_Ex.rRowI (f := pa_bgI) (g := mo_z) 8 8 rfl hR rfl rfl rfl (by omega) rfl (fun h1 hR => ?_)
  (try refine pb_Ex.run rfl ?_)
  refine pb_Ex.rRowI (f := pa_bgI) (g := mo_z) 8 9 rfl hR rfl rfl rfl (by omega) rfl (fun h1 hR => ?_)
  (try refine pb_Ex.run rfl ?_)
  refine pb_Ex.rRowI (f := pa_bgI) (g := mo_z) 8 10 rfl hR rfl rfl rfl (by omega) rfl (fun h1 hR => ?_)
  (try refine pb_Ex.run rfl ?_)
  refine pb_Ex.rRowI (f := pa_bgI) (g := mo_z) 8 11 rfl hR rfl rfl rfl (by omega) rfl (fun h1 hR => ?_)
  (try refine pb_Ex.run rfl ?_)
  refine pb_Ex.rPutF rfl rfl hR rfl (fun r hr => by cases hr; rfl) rfl (by first | trivial | exact Or.inl rfl | exact Or.inr rfl | (show _ ∨ _; omega) | (show _ ∧ _; omega)) (fun h1 hR => ?_)
  (try refine pb_Ex.run rfl ?_)
  refine pb_Ex.rNewI 244 9 rfl rfl (by omega) hR rfl (by omega) (by omega) (fun h1 hR => ?_)
  (try refine pb_Ex.run rfl ?_)
  refine pb_Ex.rPutF rfl rfl hR rfl (fun r hr => by cases hr; rfl) rfl (by first | trivial | exact Or.inl rfl | exact Or.inr rfl | (show _ ∨ _; omega) | (show _ ∧ _; omega)) (fun h1 hR => ?_)
  (try refine pb_Ex.run rfl ?_)
  obtain ⟨fs9, hfs⟩ : ∃ fs9 : List pb_V, fs9 = [pb_r (h.1 + 0), pb_r (h.1 + 1), pb_r (h.1 + 2), pb_i 0, pb_r (h.1 + 3), pb_i 0, pb_i (-1), pb_i (-1), pb_i 0, pb_i 0, pb_r (h.1 + 4), pb_i 0, pb_r (h.1 + 5), pb_i 0, pb_j 0, pb_r (h.1 + 6), pb_i 0, pb_r (h.1 + 7), pb_r (h.1 + 8), pb_r (h.1 + 9), pb_i 0, pb_i 0, pb_i 0, pb_i 0] := ⟨_, rfl⟩
  have hR : pb_reg h o 3 fs9 [pb_aI 0 213 mo_z, pb_aI 0 213 mo_z, pb_aI 0 213 mo_z, pb_aI 0 1704 mo_z, pb_aI 0 60 mo_z, pb_aI 0 8 mo_z, pb_aI 0 100 mo_z, pb_aI 5 66 (mo_cp pa_let mo_z 66), pb_aI 0 12 (mo_cp pa_bgI mo_z 12), pb_aI 0 244 mo_z] h1 := by rw [hfs]; exact hR
  rw [pa_let_cp] at hR
  have fin : ∀ h2 : pb_H, pb_reg h o 3 fs9 [pb_aI 0 213 (ya_s0 4), pb_aI 0 213 mo_z, pb_aI 0 213 mo_z, pb_aI 0 1704 mo_z, pb_aI 0 60 mo_z, pb_aI 0 8 mo_z, pb_aI 0 100 mo_z, pb_aI 5 66 pa_let, pb_aI 0 12 (mo_cp pa_bgI mo_z 12), pb_aI 0 244 mo_z] h2 → mo_made h o h2 := by
    intro h2 hR
    subst hfs
    refine ⟨⟨hR.2.2.1, hR.2.2.2.1 0 _ rfl, hR.2.2.2.1 1 _ rfl, hR.2.2.2.1 2 _ rfl, hR.2.2.2.1 3 _ rfl, hR.2.2.2.1 4 _ rfl, hR.2.2.2.1 5 _ rfl, hR.2.2.2.1 6 _ rfl, hR.2.2.2.1 7 _ rfl, hR.2.2.2.1 8 _ rfl, hR.2.2.2.1 9 _ rfl, ?_⟩, hR.2.1, hR.2.2.2.2⟩
    intro i hi j hj e
    have key : ∀ i ∈ mo_ix, ∀ j ∈ mo_ix, (mo_A0 0 i = mo_A0 0 j) → i = j := by decide
    refine key i hi j hj ?_
    unfold mo_A0 at e ⊢
    omega
  have slips : ∀ (m n : Nat) (h2 : pb_H) (z : Int), n + m = 4 → z = n → pb_reg h o 3 fs9 [pb_aI 0 213 (ya_s0 n), pb_aI 0 213 mo_z, pb_aI 0 213 mo_z, pb_aI 0 1704 mo_z, pb_aI 0 60 mo_z, pb_aI 0 8 mo_z, pb_aI 0 100 mo_z, pb_aI 5 66 pa_let, pb_aI 0 12 (mo_cp pa_bgI mo_z 12), pb_aI 0 244 mo_z] h2 → pb_Ex G mX4_init 2 10 2833 (fun oc h' => oc = .inl none ∧ mo_made h o h') 10 2833 595 [some (pb_r o), some (pb_i z)] [] h2 := by
    intro m
    induction m with
    | zero =>
      intro n h1 z hn hz hR
      have e : n = 4 := by omega
      subst e hz
      refine pb_Ex.run rfl ?_
      refine pb_Ex.icmpT rfl (by omega) (by omega) (by first | decide | (simp only [pb_cmp]; omega) | simp [pb_cmp]) ?_
      (try refine pb_Ex.run rfl ?_)
      exact pb_Ex.vret rfl rfl (by omega) (by omega) ⟨rfl, fin _ hR⟩
    | succ m ih =>
      intro n h1 z hn hz hR
      subst hz
      refine pb_Ex.run rfl ?_
      refine pb_Ex.icmpF rfl (by omega) (by omega) (by first | decide | (simp only [pb_cmp]; omega) | simp [pb_cmp]) ?_
      (try refine pb_Ex.run rfl ?_)
      refine pb_Ex.getf (v := pb_r (h.1 + 0)) rfl rfl hR.2.2.1 (by rw [hfs]; rfl) ?_
      refine pb_Ex.run rfl ?_
      refine pb_Ex.rStI 0 (17 + n) rfl hR rfl (by omega) (by omega) (fun h1 hR => ?_)
      refine pb_Ex.run rfl ?_
      refine ih (n + 1) _ _ (by omega) (by omega) ?_
      rw [← ya_s0_s]
      exact hR
  have tides : ∀ (m n : Nat) (h2 : pb_H) (z : Int), n + m = 12 → z = n → pb_reg h o 3 fs9 [pb_aI 0 213 (ya_t0 n), pb_aI 0 213 mo_z, pb_aI 0 213 mo_z, pb_aI 0 1704 mo_z, pb_aI 0 60 mo_z, pb_aI 0 8 mo_z, pb_aI 0 100 mo_z, pb_aI 5 66 pa_let, pb_aI 0 12 (mo_cp pa_bgI mo_z 12), pb_aI 0 244 mo_z] h2 → pb_Ex G mX4_init 2 10 2833 (fun oc h' => oc = .inl none ∧ mo_made h o h') 10 2833 555 [some (pb_r o), some (pb_i z)] [] h2 := by
    intro m
    induction m with
    | zero =>
      intro n h1 z hn hz hR
      have e : n = 12 := by omega
      subst e hz
      refine pb_Ex.run rfl ?_
      refine pb_Ex.icmpT rfl (by omega) (by omega) (by first | decide | (simp only [pb_cmp]; omega) | simp [pb_cmp]) ?_
      (try refine pb_Ex.run rfl ?_)
      refine slips 4 0 _ 0 (by omega) rfl ?_
      rw [ya_s0_0]
      exact hR
    | succ m ih =>
      intro n h1 z hn hz hR
      subst hz
      refine pb_Ex.run rfl ?_
      refine pb_Ex.icmpF rfl (by omega) (by omega) (by first | decide | (simp only [pb_cmp]; omega) | simp [pb_cmp]) ?_
      (try refine pb_Ex.run rfl ?_)
      refine pb_Ex.getf (v := pb_r (h.1 + 0)) rfl rfl hR.2.2.1 (by rw [hfs]; rfl) ?_
      refine pb_Ex.run rfl ?_
      have fin2 : ∀ (v : Int) (h2 : pb_H), v = ya_td n → pb_reg h o 3 fs9 [pb_aI 0 213 (va_up (ya_t0 n) (5 + n) v), pb_aI 0 213 mo_z, pb_aI 0 213 mo_z, pb_aI 0 1704 mo_z, pb_aI 0 60 mo_z, pb_aI 0 8 mo_z, pb_aI 0 100 mo_z, pb_aI 5 66 pa_let, pb_aI 0 12 (mo_cp pa_bgI mo_z 12), pb_aI 0 244 mo_z] h2 → pb_Ex G mX4_init 2 10 2833 (fun oc h' => oc = .inl none ∧ mo_made h o h') 10 2833 555 [some (pb_r o), some (pb_i ((n : Int) + 1))] [] h2 := by
        intro v h2 hv hR
        subst hv
        rw [ya_t0_s] at hR
        exact ih (n + 1) _ _ (by omega) (by push_cast; rfl) hR
      refine pb_Ex.icmp_gt rfl (by omega) (by omega) (fun c => ?_) (fun c => ?_)
      · refine pb_Ex.run rfl ?_
        refine pb_Ex.rStI 0 (5 + n) rfl hR rfl (by omega) (by omega) (fun h1 hR => ?_)
        refine pb_Ex.run rfl ?_
        exact fin2 _ _ (by unfold ya_td; rw [if_neg (by omega)]) hR
      · refine pb_Ex.run rfl ?_
        refine pb_Ex.rStI 0 (5 + n) rfl hR rfl (by omega) (by omega) (fun h1 hR => ?_)
        refine pb_Ex.run rfl ?_
        exact fin2 _ _ (by unfold ya_td; rw [if_pos (by omega)]) hR
  refine tides 12 0 _ 0 (by omega) rfl ?_
  rw [ya_t0_0]
  exact hR
end MODEL20
