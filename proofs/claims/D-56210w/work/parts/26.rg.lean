set_option maxRecDepth 100000
/-! ranges of what the operations answer -/
section RG
variable {t : Nat} {f : Nat → Int}
theorem sp_hull_rg (ok : ya_ok t f) : (0 ≤ (sp_hull f).1 ∧ (sp_hull f).1 ≤ 3) ∧ pb_rg (sp_hull f).2.1 := by
  have := ok.num
  unfold sp_hull
  split <;> (simp only; omega)
theorem sp_miC_rg (f : Nat → Int) (k : Nat) : ∀ n : Nat, 0 ≤ sp_miC f k n ∧ sp_miC f k n ≤ n
  | 0 => by simp [sp_miC]
  | n + 1 => by
    have := sp_miC_rg f k n
    rw [sp_miC]
    split <;> omega
theorem sp_frame_rg (ok : ya_ok t f) (z l r : Int) : (0 ≤ (sp_frame f z l r).1 ∧ (sp_frame f z l r).1 ≤ 3) ∧ pb_rg (sp_frame f z l r).2.1 := by
  have h0 := ok.num
  unfold sp_frame
  split
  · simp only; omega
  · split
    · simp only; omega
    · split
      · simp only; omega
      · have := ok.hull (k := z.toNat) (by omega)
        simp only; omega
theorem sp_mirror_rg (ok : ya_ok t f) (z : Int) : (0 ≤ (sp_mirror f z).1 ∧ (sp_mirror f z).1 ≤ 3) ∧ pb_rg (sp_mirror f z).2.1 := by
  have h0 := ok.num
  unfold sp_mirror
  split
  · simp only; omega
  · split
    · simp only; omega
    · have := (ok.fr (k := z.toNat) (by omega)).nn
      have := sp_miC_rg f z.toNat (ya_n f z.toNat)
      simp only; omega
theorem sp_cargo_rg (ok : ya_ok t f) (z c : Int) : (0 ≤ (sp_cargo f z c).1 ∧ (sp_cargo f z c).1 ≤ 3) ∧ pb_rg (sp_cargo f z c).2.1 := by
  have h0 := ok.num
  unfold sp_cargo
  split
  · simp only; omega
  · split
    · simp only; omega
    · split
      · simp only; omega
      · have := ok.hull (k := z.toNat) (by omega)
        simp only; omega
theorem sp_why_rg (f : Nat → Int) (k : Nat) : 0 ≤ sp_why f k ∧ sp_why f k ≤ 3 := by
  unfold sp_why
  split <;> (try split) <;> (try split) <;> omega
theorem sp_launch_rg (ok : ya_ok t f) (z : Int) : (0 ≤ (sp_launch f z).1 ∧ (sp_launch f z).1 ≤ 3) ∧ pb_rg (sp_launch f z).2.1 ∧ 0 ≤ (sp_launch f z).2.2.2 ∧ (sp_launch f z).2.2.2 ≤ 3 := by
  have h0 := ok.num
  have h1 := sp_why_rg f z.toNat
  have h2 := ya_dr_rg (ya_wd f z.toNat) (ya_wt f z.toNat)
  unfold sp_launch
  split
  · simp only; omega
  · split
    · simp only; omega
    · split
      · simp only; omega
      · simp only; omega
theorem sp_caulk_rg (ok : ya_ok t f) (z y : Int) : (0 ≤ (sp_caulk f z y).1 ∧ (sp_caulk f z y).1 ≤ 3) ∧ pb_rg (sp_caulk f z y).2.1 := by
  have h0 := ok.num
  unfold sp_caulk
  split
  · simp only; omega
  · split
    · simp only; omega
    · have h1 := (ok.fr (k := z.toNat) (by omega)).se
      have := ok.cau (k := z.toNat) (by omega) (j := y.toNat) (by omega)
      simp only; omega
theorem sp_pump_rg (ok : ya_ok t f) (z v : Int) : (0 ≤ (sp_pump f z v).1 ∧ (sp_pump f z v).1 ≤ 3) ∧ pb_rg (sp_pump f z v).2.1 := by
  have h0 := ok.num
  unfold sp_pump
  split
  · simp only; omega
  · split
    · simp only; omega
    · split
      · simp only; omega
      · have := ok.hull (k := z.toNat) (by omega)
        simp only; omega
theorem sp_tide_rg (ok : ya_ok t f) (i v : Int) : (0 ≤ (sp_tide f i v).1 ∧ (sp_tide f i v).1 ≤ 3) ∧ pb_rg (sp_tide f i v).2.1 := by
  unfold sp_tide
  split
  · simp only; omega
  · have := ok.tid (i := i.toNat) (by omega)
    simp only; omega
theorem sp_slip_rg (ok : ya_ok t f) (i v : Int) : (0 ≤ (sp_slip f i v).1 ∧ (sp_slip f i v).1 ≤ 3) ∧ pb_rg (sp_slip f i v).2.1 := by
  unfold sp_slip
  split
  · simp only; omega
  · have := ok.sli (i := i.toNat) (by omega)
    simp only; omega
theorem sp_h3_rg (f : Nat → Int) : ∀ n : Nat, 0 ≤ (sp_h3 f n).2 ∧ (sp_h3 f n).2 ≤ n
  | 0 => by simp [sp_h3]
  | n + 1 => by
    have := sp_h3_rg f n
    rw [sp_h3]
    split
    · simp only; omega
    · omega
theorem sp_hrs_rg (ok : ya_ok t f) : ∀ n : Nat, t + n ≤ 200000 → 0 ≤ (sp_hrs f n).2 ∧ (sp_hrs f n).2 ≤ 6 * n
  | 0, _ => by simp [sp_hrs]
  | n + 1, h => by
    have h1 := sp_hrs_rg ok n (by omega)
    have h2 := (sp_hrs_ok ok n (by omega)).num
    have h3 := sp_h3_rg (sp_hourB (sp_hrs f n).1) ((sp_hrs f n).1 0).toNat
    show 0 ≤ (sp_hrs f n).2 + (sp_hour (sp_hrs f n).1).2 ∧ (sp_hrs f n).2 + (sp_hour (sp_hrs f n).1).2 ≤ _
    unfold sp_hour
    omega
theorem sp_pass_rg (ok : ya_ok t f) (ht : t + 99 ≤ 200000) (v : Int) : (0 ≤ (sp_pass f v).1 ∧ (sp_pass f v).1 ≤ 3) ∧ pb_rg (sp_pass f v).2.1 := by
  unfold sp_pass
  split
  · simp only; omega
  · have := sp_hrs_rg ok v.toNat (by omega)
    simp only; omega
theorem sp_order_rg (ok : ya_ok t f) (a b c : Int) : (0 ≤ (sp_order f a b c).1 ∧ (sp_order f a b c).1 ≤ 3) ∧ pb_rg (sp_order f a b c).2.1 := by
  have h0 := ok.num
  unfold sp_order
  split
  · simp only; omega
  · split
    · simp only; omega
    · simp only; omega
theorem sp_deliver_rg (ok : ya_ok t f) (id z : Int) : (0 ≤ (sp_deliver f id z).1 ∧ (sp_deliver f id z).1 ≤ 3) ∧ pb_rg (sp_deliver f id z).2.1 := by
  have h0 := ok.num
  unfold sp_deliver
  split
  · simp only; omega
  · next e =>
    split
    · simp only; omega
    · split
      · simp only; omega
      · rcases sp_find_rg ok id with h1 | h1
        · exact absurd h1 e
        · have := sp_coins_rg ok (k := (sp_find f id).toNat) (by omega) (by omega)
          simp only; omega
end RG
/-- the model's numbers and arrays behind a public operation: refused (c), or the yard's numbers g -/
def mo_ox (x : Nat → Int) (c : Int) : Nat → Int := mo_cx (mo_S (va_up x 9 0) c)
def mo_oF (x : Nat → Int) (F : Nat → Nat → Int) (c : Int) (g : Nat → Int) : Nat → Nat → Int := mo_cF (mo_S (va_up x 9 0) c) (va_up (va_up F 1 (mo_cp (F 0) (F 1) 213)) 0 g)
theorem mo_S9 (x : Nat → Int) (c : Int) : mo_S (va_up x 9 0) c 9 = c := by
  unfold mo_S
  split
  · next h => rw [va_upS, h]
  · rw [va_upS]
theorem mo_S5 (x : Nat → Int) (c : Int) : mo_S (va_up x 9 0) c 5 = x 5 := by
  unfold mo_S
  split
  · rw [va_upN _ _ (by omega)]
  · rw [va_upN _ _ (by omega), va_upN _ _ (by omega)]
