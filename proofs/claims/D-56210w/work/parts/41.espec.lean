set_option maxRecDepth 100000
/-! A COMMAND, by its number k: (refusal, the numbers, a launch's reason) -/
def sp_op (f : Nat → Int) (k : Nat) (a b c : Int) : Int × (Nat → Int) × Int := match k with
  | 0 => ((sp_hull f).1, (sp_hull f).2.2, 0)
  | 1 => ((sp_frame f a b c).1, (sp_frame f a b c).2.2, 0)
  | 2 => ((sp_mirror f a).1, (sp_mirror f a).2.2, 0)
  | 3 => ((sp_cargo f a b).1, (sp_cargo f a b).2.2, 0)
  | 4 => ((sp_launch f a).1, (sp_launch f a).2.2.1, (sp_launch f a).2.2.2)
  | 5 => ((sp_caulk f a b).1, (sp_caulk f a b).2.2, 0)
  | 6 => ((sp_pump f a b).1, (sp_pump f a b).2.2, 0)
  | 7 => ((sp_pass f a).1, (sp_pass f a).2.2, 0)
  | 8 => ((sp_tide f a b).1, (sp_tide f a b).2.2, 0)
  | 9 => ((sp_order f a b c).1, (sp_order f a b c).2.2, 0)
  | _ => ((sp_deliver f a b).1, (sp_deliver f a b).2.2, 0)
theorem sp_op_ok {t : Nat} {f : Nat → Int} (ok : ya_ok t f) (ht : t + 99 ≤ 200000) (k : Nat) (a b c : Int) : ya_ok (t + 99) (sp_op f k a b c).2.1 := by
  have mm : ∀ {g : Nat → Int}, ya_ok t g → ya_ok (t + 99) g := fun h => h.mono (by omega) ht
  unfold sp_op
  split
  · exact mm (sp_hull_ok ok)
  · exact mm (sp_frame_ok ok _ _ _)
  · exact mm (sp_mirror_ok ok _)
  · exact mm (sp_cargo_ok ok _ _)
  · exact mm (sp_launch_ok ok _)
  · exact mm (sp_caulk_ok ok _ _)
  · exact mm (sp_pump_ok ok _ _)
  · exact sp_pass_ok ok ht _
  · exact mm (sp_tide_ok ok _ _)
  · exact sp_order_ok ok ht _ _ _
  · exact sp_deliver_ok ok ht _ _
theorem sp_op_rg {t : Nat} {f : Nat → Int} (ok : ya_ok t f) (ht : t + 99 ≤ 200000) (k : Nat) (a b c : Int) : 0 ≤ (sp_op f k a b c).1 ∧ (sp_op f k a b c).1 ≤ 3 := by
  unfold sp_op
  split
  · exact (sp_hull_rg ok).1
  · exact (sp_frame_rg ok _ _ _).1
  · exact (sp_mirror_rg ok _).1
  · exact (sp_cargo_rg ok _ _).1
  · exact (sp_launch_rg ok _).1
  · exact (sp_caulk_rg ok _ _).1
  · exact (sp_pump_rg ok _ _).1
  · exact (sp_pass_rg ok ht _).1
  · exact (sp_tide_rg ok _ _).1
  · exact (sp_order_rg ok _ _ _).1
  · exact (sp_deliver_rg ok _ _).1
theorem sp_op_rs {t : Nat} {f : Nat → Int} (ok : ya_ok t f) (k : Nat) (a b c : Int) : 0 ≤ (sp_op f k a b c).2.2 ∧ (sp_op f k a b c).2.2 ≤ 3 := by
  have h := sp_launch_rg ok a
  unfold sp_op
  split <;> first | exact ⟨h.2.2.1, h.2.2.2⟩ | (show (0 : Int) ≤ 0 ∧ (0 : Int) ≤ 3; omega)
/-! nothing is written behind the yard's 213 numbers -/
section FAR
variable {f : Nat → Int} {i : Nat}
theorem sp_hull_far (hi : 213 ≤ i) : (sp_hull f).2.2 i = f i := by
  unfold sp_hull
  split
  · rfl
  · exact va_upN _ _ (by omega)
theorem sp_frame_far {t : Nat} (ok : ya_ok t f) (hi : 213 ≤ i) (z l r : Int) : (sp_frame f z l r).2.2 i = f i := by
  have hn := ok.num
  unfold sp_frame
  split
  · rfl
  · next c1 =>
    split
    · rfl
    · split
      · rfl
      · next c3 =>
        obtain ⟨k, rfl⟩ := Int.eq_ofNat_of_zero_le (show 0 ≤ z by omega)
        rw [Int.toNat_natCast] at c3 ⊢
        have h2 := ok.nn (k := k) (by omega)
        dsimp only
        split
        · rw [va_upN _ _ (by omega), va_upN _ _ (by omega), va_upN _ _ (by omega), va_upN _ _ (by omega)]
        · rw [va_upN _ _ (by omega), va_upN _ _ (by omega), va_upN _ _ (by omega)]
theorem sp_mirror_far {t : Nat} (ok : ya_ok t f) (hi : 213 ≤ i) (z : Int) : (sp_mirror f z).2.2 i = f i := by
  have hn := ok.num
  unfold sp_mirror
  split
  · rfl
  · next c1 =>
    split
    · rfl
    · obtain ⟨k, rfl⟩ := Int.eq_ofNat_of_zero_le (show 0 ≤ z by omega)
      rw [Int.toNat_natCast]
      have h2 := ok.nn (k := k) (by omega)
      exact sp_miF_out f k _ i (by omega)
theorem sp_cargo_far {t : Nat} (ok : ya_ok t f) (hi : 213 ≤ i) (z c : Int) : (sp_cargo f z c).2.2 i = f i := by
  have hn := ok.num
  unfold sp_cargo
  split
  · rfl
  · split
    · rfl
    · split
      · rfl
      · exact va_upN _ _ (by omega)
theorem sp_launch_far {t : Nat} (ok : ya_ok t f) (hi : 213 ≤ i) (z : Int) : (sp_launch f z).2.2.1 i = f i := by
  have hn := ok.num
  unfold sp_launch
  split
  · rfl
  · split
    · rfl
    · split
      · rfl
      · exact va_upN _ _ (by omega)
theorem sp_caulk_far {t : Nat} (ok : ya_ok t f) (hi : 213 ≤ i) (z c : Int) : (sp_caulk f z c).2.2 i = f i := by
  have hn := ok.num
  unfold sp_caulk
  split
  · rfl
  · next c1 =>
    split
    · rfl
    · obtain ⟨k, rfl⟩ := Int.eq_ofNat_of_zero_le (show 0 ≤ z by omega)
      rw [Int.toNat_natCast] at c1 ⊢
      have := (ok.fr (k := k) (by omega)).se
      exact va_upN _ _ (by omega)
theorem sp_pump_far {t : Nat} (ok : ya_ok t f) (hi : 213 ≤ i) (z c : Int) : (sp_pump f z c).2.2 i = f i := by
  have hn := ok.num
  unfold sp_pump
  split
  · rfl
  · split
    · rfl
    · split
      · rfl
      · exact va_upN _ _ (by omega)
theorem sp_tide_far (hi : 213 ≤ i) (z c : Int) : (sp_tide f z c).2.2 i = f i := by
  unfold sp_tide
  split
  · rfl
  · exact va_upN _ _ (by omega)
theorem sp_slip_far (hi : 213 ≤ i) (z c : Int) : (sp_slip f z c).2.2 i = f i := by
  unfold sp_slip
  split
  · rfl
  · exact va_upN _ _ (by omega)
theorem sp_hour_far {t : Nat} (ok : ya_ok t f) (hi : 213 ≤ i) : (sp_hour f).1 i = f i := by
  have hn := ok.num
  have hn6 : (f 0).toNat ≤ 6 := by omega
  unfold sp_hour
  rw [sp_h3_out _ _ _ (fun k hk => by omega)]
  have hfr : ∀ k, k < (f 0).toNat → ya_fr (sp_hourA f) k := fun k hk => by
    have h := ok.fr (k := k) (by omega)
    unfold ya_fr
    rw [sp_hourA_out f _ (by omega) (fun q hq => by omega) hn6]
    exact h
  unfold sp_hourB
  rw [sp_h2_out _ _ _ hfr (fun k hk => by omega), sp_hourA_out f _ (by omega) (fun q hq => by omega) hn6]
theorem sp_hrs_far {t : Nat} (ok : ya_ok t f) (hi : 213 ≤ i) : ∀ j : Nat, t + j ≤ 200000 → (sp_hrs f j).1 i = f i
  | 0, _ => rfl
  | j + 1, h => by
    have h1 := sp_hrs_ok ok j (by omega)
    show (sp_hour (sp_hrs f j).1).1 i = f i
    rw [sp_hour_far h1 hi]
    exact sp_hrs_far ok hi j (by omega)
theorem sp_pass_far {t : Nat} (ok : ya_ok t f) (ht : t + 99 ≤ 200000) (hi : 213 ≤ i) (v : Int) : (sp_pass f v).2.2 i = f i := by
  unfold sp_pass
  split
  · rfl
  · exact sp_hrs_far ok hi _ (by omega)
theorem sp_order_far {t : Nat} (ok : ya_ok t f) (hi : 213 ≤ i) (a b c : Int) : (sp_order f a b c).2.2 i = f i := by
  have hn := ok.num
  unfold sp_order
  split
  · rfl
  · split
    · rfl
    · dsimp only
      rw [va_upN _ _ (by omega), va_upN _ _ (by omega), va_upN _ _ (by omega), va_upN _ _ (by omega), va_upN _ _ (by omega), va_upN _ _ (by omega)]
theorem sp_deliver_far {t : Nat} (ok : ya_ok t f) (hi : 213 ≤ i) (id z : Int) : (sp_deliver f id z).2.2 i = f i := by
  have hn := ok.num
  unfold sp_deliver
  split
  · rfl
  · split
    · rfl
    · split
      · rfl
      · dsimp only
        rw [va_upN _ _ (by omega)]
        unfold sp_mv
        rw [if_neg (by omega), if_neg (by omega), va_upN _ _ (by omega), va_upN _ _ (by omega)]
theorem sp_op_far {t : Nat} (ok : ya_ok t f) (ht : t + 99 ≤ 200000) (hi : 213 ≤ i) (k : Nat) (a b c : Int) : (sp_op f k a b c).2.1 i = f i := by
  unfold sp_op
  split
  · exact sp_hull_far hi
  · exact sp_frame_far ok hi _ _ _
  · exact sp_mirror_far ok hi _
  · exact sp_cargo_far ok hi _ _
  · exact sp_launch_far ok hi _
  · exact sp_caulk_far ok hi _ _
  · exact sp_pump_far ok hi _ _
  · exact sp_pass_far ok ht hi _
  · exact sp_tide_far hi _ _
  · exact sp_order_far ok hi _ _ _
  · exact sp_deliver_far ok hi _ _
end FAR
/-- the commands are done from the i-th on, m of them: which one was refused (-1 none), the numbers, the launch's reason noted last -/
def sp_run (cm : Nat → Int) : Nat → Nat → (Nat → Int) → Int → Int × (Nat → Int) × Int
  | 0, _, f, r => (-1, f, r)
  | m + 1, i, f, r =>
    if (sp_op f (cm (4 * i)).toNat (cm (4 * i + 1)) (cm (4 * i + 2)) (cm (4 * i + 3))).1 = 0 then
      sp_run cm m (i + 1) (sp_op f (cm (4 * i)).toNat (cm (4 * i + 1)) (cm (4 * i + 2)) (cm (4 * i + 3))).2.1 (if (sp_op f (cm (4 * i)).toNat (cm (4 * i + 1)) (cm (4 * i + 2)) (cm (4 * i + 3))).2.2 = 0 then r else (sp_op f (cm (4 * i)).toNat (cm (4 * i + 1)) (cm (4 * i + 2)) (cm (4 * i + 3))).2.2)
    else (i, (sp_op f (cm (4 * i)).toNat (cm (4 * i + 1)) (cm (4 * i + 2)) (cm (4 * i + 3))).2.1, if (sp_op f (cm (4 * i)).toNat (cm (4 * i + 1)) (cm (4 * i + 2)) (cm (4 * i + 3))).2.2 = 0 then r else (sp_op f (cm (4 * i)).toNat (cm (4 * i + 1)) (cm (4 * i + 2)) (cm (4 * i + 3))).2.2)
/-! the commands' numbers -/
def pa_cok (cm : Nat → Int) : Prop := ∀ j : Nat, j < 244 → 0 ≤ cm j ∧ cm j ≤ 999
theorem pa_cok.up {cm : Nat → Int} (h : pa_cok cm) {j : Nat} {v : Int} (hv : 0 ≤ v ∧ v ≤ 999) : pa_cok (va_up cm j v) := by
  intro i hi
  by_cases c : i = j
  · subst c; rw [va_upS]; exact hv
  · rw [va_upN _ _ c]; exact h i hi
theorem pa_dg_v {g : Nat → Int} {N : Nat} (s : Nat × Bool) : 0 ≤ (pa_dg g N s).1 ∧ (pa_dg g N s).1 ≤ 9 := by
  unfold pa_dg
  split
  · show (0 : Int) ≤ 0 ∧ (0 : Int) ≤ 9
    omega
  · next c =>
    simp only [pa_dw, pa_isd, Bool.or_eq_true, Bool.not_eq_true', Bool.and_eq_false_iff, decide_eq_false_iff_not] at c
    show 0 ≤ pa_hr g N s.1 - 48 ∧ pa_hr g N s.1 - 48 ≤ 9
    omega
theorem pa_nbF_v {g : Nat → Int} {N : Nat} : ∀ (m : Nat) (r : Int × Nat × Bool) (B : Int), 0 ≤ r.1 ∧ r.1 ≤ B → 0 ≤ (pa_nbF g N m r).1 ∧ ((pa_nbF g N m r).1 ≤ B ∨ (1 ≤ m ∧ (pa_nbF g N m r).1 ≤ 10 * B + 9) ∨ (2 ≤ m ∧ (pa_nbF g N m r).1 ≤ 100 * B + 99) ∨ 3 ≤ m)
  | 0, r, B, h => ⟨h.1, Or.inl h.2⟩
  | m + 1, r, B, h => by
    unfold pa_nbF
    split
    · exact ⟨h.1, Or.inl h.2⟩
    · have h1 := pa_dg_v (g := g) (N := N) r.2
      have h2 := pa_nbF_v (g := g) (N := N) m (10 * r.1 + (pa_dg g N r.2).1, (pa_dg g N r.2).2) (10 * B + 9) (by show 0 ≤ 10 * r.1 + (pa_dg g N r.2).1 ∧ 10 * r.1 + (pa_dg g N r.2).1 ≤ 10 * B + 9; omega)
      omega
theorem pa_nb_v {g : Nat → Int} {N : Nat} (s : Nat × Bool) : 0 ≤ (pa_nb g N s).1 ∧ (pa_nb g N s).1 ≤ 999 := by
  have h := pa_nbF_v (g := g) (N := N) 2 (pa_dg g N s) 9 (pa_dg_v s)
  unfold pa_nb
  omega
theorem pa_a1_v {g : Nat → Int} {N k : Nat} (s : Nat × Bool) : 0 ≤ (pa_a1 g N k s).1 ∧ (pa_a1 g N k s).1 ≤ 999 := by
  have h1 := pa_nb_v (g := g) (N := N) s
  have h2 := pa_dg_v (g := g) (N := N) s
  unfold pa_a1
  split
  · show (0 : Int) ≤ 0 ∧ (0 : Int) ≤ 999
    omega
  · split
    · exact h1
    · omega
theorem pa_n2_v {g : Nat → Int} {N : Nat} {c : Int} {pos : Nat} {s : pa_S} (h : pa_cok s.2) : pa_cok (pa_n2 g N c pos s).2 := h.up (pa_nb_v _)
theorem pa_d2_v {g : Nat → Int} {N : Nat} {pos : Nat} {s : pa_S} (h : pa_cok s.2) : pa_cok (pa_d2 g N pos s).2 := h.up (by have := pa_dg_v (g := g) (N := N) (pa_ex g N 32 s.1); omega)
theorem pa_args_v {g : Nat → Int} {N k pos : Nat} {s : pa_S} (h : pa_cok s.2) : pa_cok (pa_args g N k pos s).2 := by
  have h1 : ∀ k, pa_cok (va_up s.2 pos (pa_a1 g N k s.1).1) := fun k => h.up (pa_a1_v _)
  unfold pa_args
  split
  · exact pa_n2_v (pa_n2_v (h1 _))
  · exact pa_n2_v (h1 _)
  · exact pa_d2_v (h1 _)
  · exact pa_n2_v (h1 _)
  · exact pa_n2_v (h1 _)
  · exact pa_n2_v (pa_n2_v (h1 _))
  · exact pa_d2_v (h1 _)
  · exact h1 _
/-- what stands before pos stays -/
theorem pa_args_lo {g : Nat → Int} {N k pos : Nat} {s : pa_S} {j : Nat} (hj : j < pos) : (pa_args g N k pos s).2 j = s.2 j := by
  unfold pa_args
  split
  · show va_up (va_up (va_up _ _ _) _ _) _ _ j = _
    rw [va_upN _ _ (by omega), va_upN _ _ (by omega), va_upN _ _ (by omega)]
  · show va_up (va_up _ _ _) _ _ j = _
    rw [va_upN _ _ (by omega), va_upN _ _ (by omega)]
  · show va_up (va_up _ _ _) _ _ j = _
    rw [va_upN _ _ (by omega), va_upN _ _ (by omega)]
  · show va_up (va_up _ _ _) _ _ j = _
    rw [va_upN _ _ (by omega), va_upN _ _ (by omega)]
  · show va_up (va_up _ _ _) _ _ j = _
    rw [va_upN _ _ (by omega), va_upN _ _ (by omega)]
  · show va_up (va_up (va_up _ _ _) _ _) _ _ j = _
    rw [va_upN _ _ (by omega), va_upN _ _ (by omega), va_upN _ _ (by omega)]
  · show va_up (va_up _ _ _) _ _ j = _
    rw [va_upN _ _ (by omega), va_upN _ _ (by omega)]
  · show va_up _ _ _ j = _
    rw [va_upN _ _ (by omega)]
/-- the kinds of the commands that are read -/
def pa_kok (cm : Nat → Int) (n : Nat) : Prop := ∀ i : Nat, i < n → 0 ≤ cm (4 * i) ∧ cm (4 * i) ≤ 10
theorem pa_rc_v {g : Nat → Int} {N p : Nat} {cm : Nat → Int} {n : Nat} (h : pa_cok cm) (hk : pa_kok cm n) : pa_cok (pa_rc g N p cm n).1.2 ∧ pa_kok (pa_rc g N p cm n).1.2 (pa_rc g N p cm n).2 := by
  have hb := pa_best_le (g := g) (N := N) (p := p) 10
  unfold pa_rc
  split
  · exact ⟨h, hk⟩
  · refine ⟨pa_args_v (h.up (by omega)), fun i hi => ?_⟩
    have hi : i < n + 1 := hi
    show 0 ≤ (pa_args _ _ _ _ _).2 (4 * i) ∧ (pa_args _ _ _ _ _).2 (4 * i) ≤ 10
    rw [pa_args_lo (by omega)]
    by_cases c : i = n
    · subst c
      show 0 ≤ va_up _ _ _ _ ∧ va_up _ _ _ _ ≤ 10
      rw [va_upS]
      omega
    · show 0 ≤ va_up _ _ _ _ ∧ va_up _ _ _ _ ≤ 10
      rw [va_upN _ _ (by omega)]
      exact hk i (by omega)
theorem pa_ps_v {g : Nat → Int} {N : Nat} : ∀ (m p : Nat) (cm : Nat → Int) (n : Nat), pa_cok cm → pa_kok cm n → pa_cok (pa_ps g N m p cm n).1.2 ∧ pa_kok (pa_ps g N m p cm n).1.2 (pa_ps g N m p cm n).2
  | 0, _, _, _, h, hk => ⟨h, hk⟩
  | m + 1, p, cm, n, h, hk => by
    have h1 := pa_rc_v (g := g) (N := N) (p := p) h hk
    unfold pa_ps
    split
    · split
      · exact h1
      · exact pa_ps_v m _ _ _ h1.1 h1.2
    · exact h1
theorem pa_ps_p {g : Nat → Int} {N : Nat} : ∀ (m p : Nat) (cm : Nat → Int) (n : Nat), p ≤ N → 4 * n ≤ p → (pa_ps g N m p cm n).1.1.1 ≤ N ∧ 4 * (pa_ps g N m p cm n).2 ≤ N
  | 0, p, _, n, h, hk => ⟨h, by show 4 * n ≤ N; omega⟩
  | m + 1, p, cm, n, h, hk => by
    have h1 := pa_rc_p (g := g) (N := N) (p := p) (cm := cm) (n := n) h
    have h4 : 4 * (pa_rc g N p cm n).2 ≤ (pa_rc g N p cm n).1.1.1 := by
      by_cases c : (pa_rc g N p cm n).2 = n + 1
      · have := h1.2.2.2.2.2 c
        omega
      · omega
    have h5 := pa_ex_p (g := g) (c := 59) (by omega) h1.2.1
    unfold pa_ps
    split
    · split
      · exact ⟨h5.2, by show 4 * (pa_rc g N p cm n).2 ≤ N; omega⟩
      · exact pa_ps_p m _ _ _ h5.2 (by omega)
    · exact ⟨h1.2.1, by omega⟩
