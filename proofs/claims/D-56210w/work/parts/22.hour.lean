set_option maxRecDepth 100000
/-! THE HOUR, place by place -/
theorem ya_sum_eq {g g' : Nat → Int} : ∀ (n : Nat), (∀ j, j < n → g j = g' j) → ya_sum g n = ya_sum g' n
  | 0, _ => rfl
  | n + 1, h => by rw [ya_sum_s, ya_sum_s, ya_sum_eq n (fun j hj => h j (by omega)), h n (by omega)]
theorem ya_n_eq {f g : Nat → Int} {k : Nat} (h : g (22 + 28 * k) = f (22 + 28 * k)) : ya_n g k = ya_n f k := by unfold ya_n; rw [h]
theorem ya_se_eq {f g : Nat → Int} {k : Nat} (h : g (22 + 28 * k) = f (22 + 28 * k)) : ya_se g k = ya_se f k := by unfold ya_se; rw [ya_n_eq h]
theorem ya_fw_eq {f g : Nat → Int} {k j : Nat} (hj : j < 8) (h : ∀ i, 25 + 28 * k ≤ i → i < 41 + 28 * k → g i = f i) : ya_fw g k j = ya_fw f k j := by
  unfold ya_fw
  rw [h _ (by omega) (by omega), h _ (by omega) (by omega)]
theorem ya_wd_eq {f g : Nat → Int} {k : Nat} (hn : ya_fr f k) (h0 : g (22 + 28 * k) = f (22 + 28 * k)) (h : ∀ i, 25 + 28 * k ≤ i → i < 41 + 28 * k → g i = f i) : ya_wd g k = ya_wd f k := by
  have h1 := hn.nn
  unfold ya_wd
  rw [ya_se_eq h0]
  refine ya_sum_eq _ (fun j hj => ?_)
  unfold ya_se at hj
  show ya_fw g k j + ya_fw g k (j + 1) = _
  rw [ya_fw_eq (by omega) h, ya_fw_eq (by omega) h]
theorem ya_dry_eq {f g : Nat → Int} {k : Nat} (hn : ya_fr f k) (h0 : g (22 + 28 * k) = f (22 + 28 * k)) (h1 : g (23 + 28 * k) = f (23 + 28 * k)) (h : ∀ i, 25 + 28 * k ≤ i → i < 41 + 28 * k → g i = f i) : ya_dry g k = ya_dry f k := by
  have h2 := hn.nn
  unfold ya_dry
  rw [ya_n_eq h0, h1, ya_sum_eq _ (fun j hj => ya_fw_eq (by omega) h)]
theorem ya_drF_rg (wide w : Int) : ∀ (n d : Nat), ya_drF wide w d n = -1 ∨ (d ≤ ya_drF wide w d n ∧ ya_drF wide w d n < d + n)
  | 0, d => Or.inl rfl
  | n + 1, d => by
    unfold ya_drF
    split
    · exact Or.inr (by omega)
    · rcases ya_drF_rg wide w n (d + 1) with h | h
      · exact Or.inl h
      · refine Or.inr ?_
        push_cast at h
        omega
theorem ya_dr_rg (wide w : Int) : -1 ≤ ya_dr wide w ∧ ya_dr wide w ≤ 40 := by
  have := ya_drF_rg wide w 41 0
  unfold ya_dr
  omega
theorem sp_h1i_out (f : Nat → Int) (k : Nat) : ∀ (s i : Nat), i ≠ 24 + 28 * k → sp_h1i f k s i = f i
  | 0, _, _ => rfl
  | s + 1, i, h => by rw [sp_h1i, va_upN _ _ h]; exact sp_h1i_out f k s i h
theorem sp_h1i_in (f : Nat → Int) (k : Nat) : ∀ (s : Nat), sp_h1i f k s (24 + 28 * k) = f (24 + 28 * k) + ya_sum (fun s => 9 - f (41 + 28 * k + s)) s
  | 0 => by simp [sp_h1i, ya_sum]
  | s + 1 => by
    rw [sp_h1i, va_upS, sp_h1i_in f k s, sp_h1i_out f k s _ (by omega), ya_sum_s]
    omega
theorem sp_h1_out (f : Nat → Int) : ∀ (n i : Nat), (∀ k, k < n → i ≠ 24 + 28 * k) → sp_h1 f n i = f i
  | 0, _, _ => rfl
  | n + 1, i, h => by
    have h1 := sp_h1_out f n i (fun k hk => h k (by omega))
    rw [sp_h1]
    split
    · rw [sp_h1i_out _ _ _ _ (h n (by omega)), h1]
    · exact h1
theorem sp_h1_in (f : Nat → Int) : ∀ (n k : Nat), k < n → sp_h1 f n (24 + 28 * k) = if f (21 + 28 * k) = 1 then f (24 + 28 * k) + ya_sum (fun s => 9 - f (41 + 28 * k + s)) (ya_se f k) else f (24 + 28 * k)
  | 0, _, h => absurd h (Nat.not_lt_zero _)
  | n + 1, k, h => by
    rw [sp_h1]
    by_cases e : k = n
    · subst e
      have e1 : ∀ i, (∀ q, q < k → i ≠ 24 + 28 * q) → sp_h1 f k i = f i := sp_h1_out f k
      rw [e1 (21 + 28 * k) (fun q hq => by omega)]
      split
      · rw [sp_h1i_in, e1 _ (fun q hq => by omega), ya_se_eq (e1 _ (fun q hq => by omega))]
        congr 1
        exact ya_sum_eq _ (fun j hj => by rw [e1 _ (fun q hq => by omega)])
      · exact e1 _ (fun q hq => by omega)
    · have h1 := sp_h1_in f n k (by omega)
      split
      · rw [sp_h1i_out _ _ _ _ (by omega), h1]
      · exact h1
theorem sp_h2i_out (f : Nat → Int) (k : Nat) : ∀ (s i : Nat), (i < 41 + 28 * k ∨ 41 + 28 * k + s ≤ i) → sp_h2i f k s i = f i
  | 0, _, _ => rfl
  | s + 1, i, h => by rw [sp_h2i, va_upN _ _ (by omega)]; exact sp_h2i_out f k s i (by omega)
theorem sp_h2i_in (f : Nat → Int) (k : Nat) : ∀ (s j : Nat), j < s → sp_h2i f k s (41 + 28 * k + j) = max 0 (f (41 + 28 * k + j) - 1)
  | 0, _, h => absurd h (Nat.not_lt_zero _)
  | s + 1, j, h => by
    rw [sp_h2i]
    by_cases e : j = s
    · subst e
      rw [va_upS, sp_h2i_out _ _ _ _ (by omega)]
    · rw [va_upN _ _ (by omega)]
      exact sp_h2i_in f k s j (by omega)
theorem sp_h2_out (f : Nat → Int) : ∀ (n i : Nat), (∀ k, k < n → ya_fr f k) → (∀ k, k < n → i < 41 + 28 * k ∨ 48 + 28 * k ≤ i) → sp_h2 f n i = f i
  | 0, _, _, _ => rfl
  | n + 1, i, hf, h => by
    have h1 := sp_h2_out f n i (fun k hk => hf k (by omega)) (fun k hk => h k (by omega))
    have h2 := sp_h2_out f n (22 + 28 * n) (fun k hk => hf k (by omega)) (fun k hk => by omega)
    have h3 := (hf n (by omega)).se
    rw [sp_h2]
    split
    · rw [sp_h2i_out _ _ _ _ (by rw [ya_se_eq h2]; have := h n (by omega); omega), h1]
    · exact h1
theorem sp_h2_in (f : Nat → Int) : ∀ (n k j : Nat), (∀ k, k < n → ya_fr f k) → k < n → j < 8 → sp_h2 f n (41 + 28 * k + j) = if f (21 + 28 * k) = 1 ∧ f 1 % 6 = 0 ∧ j < ya_se f k then max 0 (f (41 + 28 * k + j) - 1) else f (41 + 28 * k + j)
  | 0, _, _, _, h, _ => absurd h (Nat.not_lt_zero _)
  | n + 1, k, j, hf, h, hj => by
    have hf' : ∀ k, k < n → ya_fr f k := fun k hk => hf k (by omega)
    have h3 := (hf n (by omega)).se
    have h2 := sp_h2_out f n (22 + 28 * n) hf' (fun k hk => by omega)
    rw [sp_h2]
    by_cases e : k = n
    · subst e
      have e1 : ∀ i, (∀ q, q < k → i < 41 + 28 * q ∨ 48 + 28 * q ≤ i) → sp_h2 f k i = f i := fun i hi => sp_h2_out f k i hf' hi
      rw [e1 (21 + 28 * k) (fun q hq => by omega), e1 1 (fun q hq => by omega), ya_se_eq h2]
      by_cases c : f (21 + 28 * k) = 1 ∧ f 1 % 6 = 0
      · rw [if_pos c]
        by_cases c2 : j < ya_se f k
        · rw [if_pos ⟨c.1, c.2, c2⟩, sp_h2i_in _ _ _ _ c2, e1 _ (fun q hq => by omega)]
        · rw [if_neg (fun z => c2 z.2.2), sp_h2i_out _ _ _ _ (by omega), e1 _ (fun q hq => by omega)]
      · rw [if_neg c, if_neg (fun z => c ⟨z.1, z.2.1⟩), e1 _ (fun q hq => by omega)]
    · have h1 := sp_h2_in f n k j hf' (by omega) hj
      split
      · rw [sp_h2i_out _ _ _ _ (by omega), h1]
      · exact h1
theorem sp_h3_out (f : Nat → Int) : ∀ (n i : Nat), (∀ k, k < n → i ≠ 21 + 28 * k) → (sp_h3 f n).1 i = f i
  | 0, _, _ => rfl
  | n + 1, i, h => by
    have h1 := sp_h3_out f n i (fun k hk => h k (by omega))
    rw [sp_h3]
    split
    · show va_up _ _ _ i = _
      rw [va_upN _ _ (h n (by omega)), h1]
    · exact h1
/-- the numbers behind an hour, ahead of the sinking -/
theorem sp_hourA_wa {t : Nat} {f : Nat → Int} (ok : ya_ok t f) {k : Nat} (hk : k < 6) : 0 ≤ sp_hourA f (24 + 28 * k) ∧ sp_hourA f (24 + 28 * k) ≤ 63 * (f 1 + 1) := by
  have h1 := ok.hull hk
  have h2 := ok.num
  unfold sp_hourA
  have e1 : ∀ i, i ≠ 1 → va_up f 1 (f 1 + 1) i = f i := fun i hi => va_upN _ _ hi
  by_cases c : k < (f 0).toNat
  · rw [sp_h1_in _ _ _ c, e1 _ (by omega), e1 _ (by omega)]
    split
    · have h3 := (ok.fr hk).se
      have h4 := ya_sum_le (g := fun s => 9 - va_up f 1 (f 1 + 1) (41 + 28 * k + s)) (B := 9) (ya_se (va_up f 1 (f 1 + 1)) k) (fun j hj => by
        rw [ya_se_eq (f := f) (e1 _ (by omega))] at hj
        have := ok.cau hk (j := j) (by omega)
        show 0 ≤ 9 - va_up f 1 (f 1 + 1) (41 + 28 * k + j) ∧ 9 - va_up f 1 (f 1 + 1) (41 + 28 * k + j) ≤ 9
        rw [e1 _ (by omega)]
        omega)
      rw [ya_se_eq (f := f) (e1 _ (by omega))] at h4 ⊢
      omega
    · omega
  · rw [sp_h1_out _ _ _ (fun q hq => by omega), e1 _ (by omega)]
    omega
theorem sp_hourA_out (f : Nat → Int) (i : Nat) (h1 : i ≠ 1) (h2 : ∀ k, k < 6 → i ≠ 24 + 28 * k) (hn : (f 0).toNat ≤ 6) : sp_hourA f i = f i := by
  unfold sp_hourA
  rw [sp_h1_out _ _ _ (fun q hq => h2 q (by omega)), va_upN _ _ h1]
theorem sp_hourA_1 (f : Nat → Int) : sp_hourA f 1 = f 1 + 1 := by
  unfold sp_hourA
  rw [sp_h1_out _ _ _ (fun q hq => by omega), va_upS]
theorem sp_h3_st (f : Nat → Int) : ∀ (n k : Nat), (sp_h3 f n).1 (21 + 28 * k) = f (21 + 28 * k) ∨ ((sp_h3 f n).1 (21 + 28 * k) = 3 ∧ k < n ∧ f (21 + 28 * k) = 1)
  | 0, _ => Or.inl rfl
  | n + 1, k => by
    have h1 := sp_h3_st f n k
    rw [sp_h3]
    split
    · next c =>
      by_cases e : k = n
      · subst e
        refine Or.inr ⟨by show va_up _ _ _ _ = _; rw [va_upS], by omega, ?_⟩
        rw [← c.1]
        exact (sp_h3_out f k _ (fun q hq => by omega)).symm
      · show va_up _ _ _ _ = _ ∨ (va_up _ _ _ _ = _ ∧ _)
        rw [va_upN _ _ (by omega)]
        rcases h1 with h1 | h1
        · exact Or.inl h1
        · exact Or.inr ⟨h1.1, by omega, h1.2.2⟩
    · rcases h1 with h1 | h1
      · exact Or.inl h1
      · exact Or.inr ⟨h1.1, by omega, h1.2.2⟩
theorem sp_hour_ok {t : Nat} {f : Nat → Int} (ok : ya_ok t f) (ht : t + 1 ≤ 200000) : ya_ok (t + 1) (sp_hour f).1 := by
  have h0 := ok.num
  have hN : (f 0).toNat ≤ 6 := by omega
  have frA : ∀ q, q < (f 0).toNat → ya_fr (sp_hourA f) q := fun q hq => by
    have := ok.fr (k := q) (by omega)
    unfold ya_fr at this ⊢
    rw [sp_hourA_out _ _ (by omega) (fun q hq => by omega) hN]; exact this
  have o3 : ∀ i, (∀ q, q < 6 → i ≠ 21 + 28 * q) → (∀ q, q < 6 → i < 41 + 28 * q ∨ 48 + 28 * q ≤ i) → (sp_hour f).1 i = sp_hourA f i := fun i a b => by
    unfold sp_hour
    rw [sp_h3_out _ _ _ (fun q hq => a q (by omega))]
    unfold sp_hourB
    exact sp_h2_out _ _ _ frA (fun q hq => b q (by omega))
  have e1 : (sp_hour f).1 1 = f 1 + 1 := by rw [o3 _ (fun q hq => by omega) (fun q hq => by omega), sp_hourA_1]
  have e0 : (sp_hour f).1 0 = f 0 := by rw [o3 _ (fun q hq => by omega) (fun q hq => by omega), sp_hourA_out _ _ (by omega) (fun q hq => by omega) hN]
  refine ok.hulls (by omega) ht (by omega) (by rw [e1]; omega) (fun i a b => ?_) (fun k hk => ?_)
  · rw [o3 _ (fun q hq => by omega) (fun q hq => by omega), sp_hourA_out _ _ (by omega) (fun q hq => by omega) hN]
  · have hh := ok.hull hk
    have hA : ∀ i, 21 + 28 * k ≤ i → i < 49 + 28 * k → i ≠ 24 + 28 * k → sp_hourA f i = f i := fun i a b c => sp_hourA_out _ _ (by omega) (fun q hq => by omega) hN
    have hst : (sp_hour f).1 (21 + 28 * k) = f (21 + 28 * k) ∨ ((sp_hour f).1 (21 + 28 * k) = 3 ∧ k < (f 0).toNat ∧ f (21 + 28 * k) = 1) := by
      have hB : sp_hourB f (21 + 28 * k) = f (21 + 28 * k) := by
        unfold sp_hourB
        rw [sp_h2_out _ _ _ frA (fun q hq => by omega)]
        exact hA _ (by omega) (by omega) (by omega)
      have := sp_h3_st (sp_hourB f) (f 0).toNat k
      rw [hB] at this
      exact this
    have hwa := sp_hourA_wa ok hk
    have hcau : ∀ j, j < 8 → ((sp_hour f).1 (41 + 28 * k + j) = f (41 + 28 * k + j) ∨ ((sp_hour f).1 (41 + 28 * k + j) = max 0 (f (41 + 28 * k + j) - 1) ∧ k < (f 0).toNat)) := fun j hj => by
      have e : (sp_hour f).1 (41 + 28 * k + j) = sp_hourB f (41 + 28 * k + j) := by
        unfold sp_hour
        exact sp_h3_out _ _ _ (fun q hq => by omega)
      rw [e]
      by_cases c : k < (f 0).toNat
      · unfold sp_hourB
        rw [sp_h2_in _ _ _ _ frA c hj, hA (41 + 28 * k + j) (by omega) (by omega) (by omega)]
        split
        · exact Or.inr ⟨rfl, c⟩
        · exact Or.inl rfl
      · unfold sp_hourB
        rw [sp_h2_out _ _ _ frA (fun q hq => by omega)]
        exact Or.inl (hA _ (by omega) (by omega) (by omega))
    refine ⟨?_, fun j hj => ?_, fun j hj => ?_, fun z j hj => ?_⟩
    · rw [o3 (22 + 28 * k) (fun q hq => by omega) (fun q hq => by omega), o3 (23 + 28 * k) (fun q hq => by omega) (fun q hq => by omega), o3 (24 + 28 * k) (fun q hq => by omega) (fun q hq => by omega), hA (22 + 28 * k) (by omega) (by omega) (by omega), hA (23 + 28 * k) (by omega) (by omega) (by omega), e1]
      omega
    · rw [o3 _ (fun q hq => by omega) (fun q hq => by omega), hA _ (by omega) (by omega) (by omega)]
      exact ok.wid hk hj
    · have h1 := ok.cau hk hj
      rcases hcau j hj with e | e
      · omega
      · rw [e.1]; omega
    · rw [e0] at z
      have hz := ok.zer hk z (j := j) hj
      by_cases j0 : j = 0
      · subst j0
        have hz : f (21 + 28 * k) = 0 := hz
        show (sp_hour f).1 (21 + 28 * k) = 0
        omega
      · by_cases j3 : 20 ≤ j
        · have := hcau (j - 20) (by omega)
          rw [show 41 + 28 * k + (j - 20) = 21 + 28 * k + j by omega] at this
          omega
        · rw [o3 _ (fun q hq => by omega) (fun q hq => by omega)]
          by_cases j4 : j = 3
          · subst j4
            rw [show 21 + 28 * k + 3 = 24 + 28 * k by omega] at hz ⊢
            unfold sp_hourA
            rw [sp_h1_out _ _ _ (fun q hq => by omega), va_upN _ _ (by omega)]
            exact hz
          · rw [hA _ (by omega) (by omega) (by omega)]; exact hz
theorem sp_hrs_ok {t : Nat} {f : Nat → Int} (ok : ya_ok t f) : ∀ (j : Nat), t + j ≤ 200000 → ya_ok (t + j) (sp_hrs f j).1
  | 0, _ => ok
  | j + 1, h => sp_hour_ok (sp_hrs_ok ok j (by omega)) (by omega)
