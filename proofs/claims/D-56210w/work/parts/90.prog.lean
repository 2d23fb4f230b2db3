set_option maxRecDepth 100000
section CQ
variable {g : Nat → Int} {N p : Nat}
theorem cq_exF_pos (t : Nat → Int) : ∀ (d i p : Nat), p ≤ (cq_exF g N t d i p).1 ∧ ((cq_exF g N t d i p).2 = true → (cq_exF g N t d i p).1 = p + d)
  | 0, _, _ => ⟨Nat.le_refl _, fun _ => rfl⟩
  | d + 1, i, p => by
    have h := cq_exF_pos t d (i + 1) (p + 1)
    unfold cq_exF
    split
    · exact ⟨by omega, fun q => by have := h.2 q; omega⟩
    · exact ⟨Nat.le_refl _, fun q => by cases q⟩
theorem cq_ex_pos {i : Nat} (h : (cq_ex g N i p).2 = true) : (cq_ex g N i p).1 = p + co_ln i := (cq_exF_pos _ _ _ _).2 h
theorem cq_nbF_pos : ∀ (d : Nat) (w : Int) (p : Nat), p ≤ (cq_nbF g N d w p).2
  | 0, _, _ => Nat.le_refl _
  | d + 1, w, p => by
    unfold cq_nbF
    split
    · have := cq_nbF_pos d (10 * w + cq_pk g N p - 48) (p + 1); omega
    · exact Nat.le_refl _
theorem cq_nb_pos {i m : Nat} (h : (cq_nb g N i m p).2.2 = true) : p + co_ln i ≤ (cq_nb g N i m p).2.1 := by
  unfold cq_nb at h ⊢
  by_cases c : (cq_ex g N i p).2 = true ∧ 48 ≤ cq_pk g N (cq_ex g N i p).1 ∧ cq_pk g N (cq_ex g N i p).1 ≤ 57
  · rw [if_pos c]
    have := cq_nbF_pos (g := g) (N := N) m 0 (cq_ex g N i p).1
    have := cq_ex_pos c.1
    show p + co_ln i ≤ (cq_nbF g N m 0 (cq_ex g N i p).1).2
    omega
  · rw [if_neg c] at h; cases h
theorem cq_ad_pos {i m j : Nat} {s : (Nat → Int) × Nat × Bool} (h : (cq_ad g N i m j s).2.2 = true) : s.2.2 = true ∧ s.2.1 + co_ln i ≤ (cq_ad g N i m j s).2.1 := by
  unfold cq_ad at h ⊢
  by_cases c : s.2.2 = true
  · rw [if_pos c] at h ⊢
    exact ⟨c, cq_nb_pos h⟩
  · rw [if_neg c] at h
    exact absurd h c
theorem cq_ad_le {i m j : Nat} {s : (Nat → Int) × Nat × Bool} (hi : i < 18) (h : s.2.1 ≤ N) : (cq_ad g N i m j s).2.1 ≤ N := by
  unfold cq_ad
  split
  · exact cq_nb_le hi h
  · exact h
theorem cq_1 {i m : Nat} {f0 : Nat → Int} (h : (cq_ad g N i m 0 (f0, p, true)).2.2 = true) (hl : 4 ≤ co_ln i) : p + 4 ≤ (cq_ad g N i m 0 (f0, p, true)).2.1 := by
  have := (cq_ad_pos h).2
  dsimp only at this
  omega
theorem cq_cmd_pos (h : (cq_cmd g N p).2.2.2 = true) : p + 4 ≤ (cq_cmd g N p).2.2.1 := by
  unfold cq_cmd at h ⊢
  by_cases c1 : cq_pk g N p = 104
  · rw [if_pos c1] at h ⊢
    unfold cq_hh at h ⊢
    by_cases d1 : (cq_ex g N 2 p).2 = true
    · have e1 := cq_ex_pos d1
      have l2 : co_ln 2 = 1 := rfl
      rw [if_pos d1] at h ⊢
      by_cases d2 : cq_pk g N (cq_ex g N 2 p).1 = 111
      · rw [if_pos d2] at h ⊢
        have := (cq_ad_pos h).2
        have l3 : co_ln 3 = 5 := rfl
        dsimp only at this ⊢
        omega
      · rw [if_neg d2] at h ⊢
        have := cq_ex_pos h
        have l4 : co_ln 4 = 3 := rfl
        dsimp only at this ⊢
        omega
    · rw [if_neg d1] at h; cases h
  rw [if_neg c1] at h ⊢
  by_cases c2 : cq_pk g N p = 102
  · rw [if_pos c2] at h ⊢
    have a3 := cq_ad_pos h
    have a2 := cq_ad_pos a3.1
    have a1 := cq_1 a2.1 (by decide)
    dsimp only at a1 a2 a3 ⊢
    omega
  rw [if_neg c2] at h ⊢
  by_cases c3 : cq_pk g N p = 109
  · rw [if_pos c3] at h ⊢
    exact cq_1 h (by decide)
  rw [if_neg c3] at h ⊢
  by_cases c4 : cq_pk g N p = 99
  · rw [if_pos c4] at h ⊢
    unfold cq_cc at h ⊢
    by_cases d1 : (cq_ex g N 5 p).2 = true
    · have e1 := cq_ex_pos d1
      rw [if_pos d1] at h ⊢
      by_cases d2 : cq_pk g N (cq_ex g N 5 p).1 = 117
      · rw [if_pos d2] at h ⊢
        have a2 := cq_ad_pos h
        have a1 := cq_1 a2.1 (by decide)
        dsimp only at a1 a2 ⊢
        omega
      · rw [if_neg d2] at h ⊢
        have a2 := cq_ad_pos h
        have a1 := cq_1 a2.1 (by decide)
        dsimp only at a1 a2 ⊢
        omega
    · rw [if_neg d1] at h; cases h
  rw [if_neg c4] at h ⊢
  by_cases c5 : cq_pk g N p = 108
  · rw [if_pos c5] at h ⊢
    exact cq_1 h (by decide)
  rw [if_neg c5] at h ⊢
  by_cases c6 : cq_pk g N p = 112
  · rw [if_pos c6] at h ⊢
    have a2 := cq_ad_pos h
    have a1 := cq_1 a2.1 (by decide)
    dsimp only at a1 a2 ⊢
    omega
  rw [if_neg c6] at h ⊢
  by_cases c7 : cq_pk g N p = 116
  · rw [if_pos c7] at h ⊢
    have a2 := cq_ad_pos h
    have a1 := cq_1 a2.1 (by decide)
    dsimp only at a1 a2 ⊢
    omega
  rw [if_neg c7] at h ⊢
  by_cases c8 : cq_pk g N p = 111
  · rw [if_pos c8] at h ⊢
    have a3 := cq_ad_pos h
    have a2 := cq_ad_pos a3.1
    have a1 := cq_1 a2.1 (by decide)
    dsimp only at a1 a2 a3 ⊢
    omega
  rw [if_neg c8] at h ⊢
  by_cases c9 : cq_pk g N p = 100
  · rw [if_pos c9] at h ⊢
    have a2 := cq_ad_pos h
    have a1 := cq_1 a2.1 (by decide)
    dsimp only at a1 a2 ⊢
    omega
  rw [if_neg c9] at h
  cases h
/-- where command j begins -/
def cq_at (g : Nat → Int) (N : Nat) : Nat → Nat
  | 0 => 0
  | j + 1 => (cq_ex g N 17 (cq_cmd g N (cq_at g N j)).2.2.1).1
abbrev cq_c (g : Nat → Int) (N j : Nat) : cq_C := cq_cmd g N (cq_at g N j)
/-- the text from command j on: how many commands are well, where it ended, whether it's well -/
def cq_run (g : Nat → Int) (N : Nat) : Nat → Nat → Nat × Nat × Bool
  | 0, j => (j, cq_at g N j, false)
  | m + 1, j => if (cq_c g N j).2.2.2 = true then (if N ≤ (cq_c g N j).2.2.1 then (j + 1, (cq_c g N j).2.2.1, true) else if (cq_ex g N 17 (cq_c g N j).2.2.1).2 = true then cq_run g N m (j + 1) else (j + 1, (cq_ex g N 17 (cq_c g N j).2.2.1).1, false)) else (j, (cq_c g N j).2.2.1, false)
end CQ
