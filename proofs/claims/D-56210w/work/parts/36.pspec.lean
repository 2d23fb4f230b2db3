set_option maxRecDepth 100000
/-! THE TEXT THAT IS READ: g its characters, N how many; a state: how far, whether it went wrong -/
def pa_ll : List Int := [104, 117, 108, 108, 102, 114, 97, 109, 101, 32, 109, 105, 114, 114, 111, 114, 32, 99, 97, 114, 103, 111, 32, 108, 97, 117, 110, 99, 104, 32, 99, 97, 117, 108, 107, 32, 112, 117, 109, 112, 32, 104, 111, 117, 114, 115, 32, 116, 105, 100, 101, 32, 111, 114, 100, 101, 114, 32, 100, 101, 108, 105, 118, 101, 114, 32]
def pa_let (j : Nat) : Int := pa_ll.getD j 0
def pa_bl : List Nat := [0, 4, 10, 17, 23, 30, 36, 41, 47, 52, 58, 66]
def pa_beg (j : Nat) : Nat := pa_bl.getD j 0
def pa_len (k : Nat) : Nat := pa_beg (k + 1) - pa_beg k
def pa_b (w : Bool) : Int := if w then 1 else 0
def pa_hr (g : Nat → Int) (N p : Nat) : Int := if p < N then g p else -1
def pa_isd (c : Int) : Bool := decide (48 ≤ c) && decide (c ≤ 57)
/-- is there anything but a digit here -/
def pa_dw (g : Nat → Int) (N : Nat) (s : Nat × Bool) : Bool := s.2 || !(pa_isd (pa_hr g N s.1))
def pa_dg (g : Nat → Int) (N : Nat) (s : Nat × Bool) : Int × Nat × Bool := if pa_dw g N s then (0, s.1, true) else (pa_hr g N s.1 - 48, s.1 + 1, false)
def pa_nbF (g : Nat → Int) (N : Nat) : Nat → Int × Nat × Bool → Int × Nat × Bool
  | 0, r => r
  | m + 1, r => if pa_dw g N r.2 then r else pa_nbF g N m (10 * r.1 + (pa_dg g N r.2).1, (pa_dg g N r.2).2)
def pa_nb (g : Nat → Int) (N : Nat) (s : Nat × Bool) : Int × Nat × Bool := pa_nbF g N 2 (pa_dg g N s)
def pa_xw (g : Nat → Int) (N : Nat) (c : Int) (s : Nat × Bool) : Bool := s.2 || !(decide (pa_hr g N s.1 = c))
def pa_ex (g : Nat → Int) (N : Nat) (c : Int) (s : Nat × Bool) : Nat × Bool := if pa_xw g N c s then (s.1, true) else (s.1 + 1, false)
/-- how many letters from b on stand at p -/
def pa_lkF (g : Nat → Int) (N : Nat) : Nat → Nat → Nat → Nat
  | _, _, 0 => 0
  | b, p, m + 1 => if p < N ∧ g p = pa_let b then 1 + pa_lkF g N (b + 1) (p + 1) m else 0
def pa_lk (g : Nat → Int) (N p k : Nat) : Nat := pa_lkF g N (pa_beg k) p (pa_len k)
def pa_best (g : Nat → Int) (N p : Nat) : Nat → Nat
  | 0 => 0
  | n + 1 => if pa_lk g N p (pa_best g N p n) < pa_lk g N p (n + 1) then n + 1 else pa_best g N p n
/-- the state and the commands' numbers -/
abbrev pa_S : Type := (Nat × Bool) × (Nat → Int)
def pa_a1 (g : Nat → Int) (N k : Nat) (s : Nat × Bool) : Int × Nat × Bool := if k = 0 then (0, s) else if k = 7 ∨ k = 8 ∨ k = 10 then pa_nb g N s else pa_dg g N s
def pa_n2 (g : Nat → Int) (N : Nat) (c : Int) (pos : Nat) (s : pa_S) : pa_S := ((pa_nb g N (pa_ex g N c s.1)).2, va_up s.2 pos (pa_nb g N (pa_ex g N c s.1)).1)
def pa_d2 (g : Nat → Int) (N : Nat) (pos : Nat) (s : pa_S) : pa_S := ((pa_dg g N (pa_ex g N 32 s.1)).2, va_up s.2 pos (pa_dg g N (pa_ex g N 32 s.1)).1)
def pa_args (g : Nat → Int) (N k pos : Nat) (s : pa_S) : pa_S := match k with
  | 1 => pa_n2 g N 47 (pos + 2) (pa_n2 g N 32 (pos + 1) ((pa_a1 g N 1 s.1).2, va_up s.2 pos (pa_a1 g N 1 s.1).1))
  | 3 => pa_n2 g N 32 (pos + 1) ((pa_a1 g N 3 s.1).2, va_up s.2 pos (pa_a1 g N 3 s.1).1)
  | 5 => pa_d2 g N (pos + 1) ((pa_a1 g N 5 s.1).2, va_up s.2 pos (pa_a1 g N 5 s.1).1)
  | 6 => pa_n2 g N 32 (pos + 1) ((pa_a1 g N 6 s.1).2, va_up s.2 pos (pa_a1 g N 6 s.1).1)
  | 8 => pa_n2 g N 32 (pos + 1) ((pa_a1 g N 8 s.1).2, va_up s.2 pos (pa_a1 g N 8 s.1).1)
  | 9 => pa_n2 g N 32 (pos + 2) (pa_n2 g N 32 (pos + 1) ((pa_a1 g N 9 s.1).2, va_up s.2 pos (pa_a1 g N 9 s.1).1))
  | 10 => pa_d2 g N (pos + 1) ((pa_a1 g N 10 s.1).2, va_up s.2 pos (pa_a1 g N 10 s.1).1)
  | k => ((pa_a1 g N k s.1).2, va_up s.2 pos (pa_a1 g N k s.1).1)
/-- a command is read: the state behind it, the commands' numbers, their count -/
def pa_rc (g : Nat → Int) (N : Nat) (p : Nat) (cm : Nat → Int) (n : Nat) : pa_S × Nat :=
  if pa_lk g N p (pa_best g N p 10) < pa_len (pa_best g N p 10) then (((p + pa_lk g N p (pa_best g N p 10), true), cm), n)
  else (pa_args g N (pa_best g N p 10) (4 * n + 1) ((p + pa_lk g N p (pa_best g N p 10), false), va_up cm (4 * n) (pa_best g N p 10)), n + 1)
/-- all commands -/
def pa_ps (g : Nat → Int) (N : Nat) : Nat → Nat → (Nat → Int) → Nat → pa_S × Nat
  | 0, p, cm, n => (((p, true), cm), n)
  | m + 1, p, cm, n =>
    if (pa_rc g N p cm n).1.1.2 = false ∧ (pa_rc g N p cm n).1.1.1 < N then
      (if pa_xw g N 59 (pa_rc g N p cm n).1.1 then (((pa_ex g N 59 (pa_rc g N p cm n).1.1), (pa_rc g N p cm n).1.2), (pa_rc g N p cm n).2)
       else pa_ps g N m (pa_ex g N 59 (pa_rc g N p cm n).1.1).1 (pa_rc g N p cm n).1.2 (pa_rc g N p cm n).2)
    else pa_rc g N p cm n
/-! facts -/
theorem pa_dg_p {g : Nat → Int} {N : Nat} {s : Nat × Bool} (h : s.1 ≤ N) : s.1 ≤ (pa_dg g N s).2.1 ∧ (pa_dg g N s).2.1 ≤ N := by
  unfold pa_dg
  split
  · exact ⟨Nat.le_refl _, h⟩
  · next c =>
    by_cases q : s.1 < N
    · exact ⟨Nat.le_succ _, q⟩
    · unfold pa_dw pa_isd pa_hr at c
      rw [if_neg q] at c
      simp at c
theorem pa_ex_p {g : Nat → Int} {N : Nat} {c : Int} (hc : 0 ≤ c) {s : Nat × Bool} (h : s.1 ≤ N) : s.1 ≤ (pa_ex g N c s).1 ∧ (pa_ex g N c s).1 ≤ N := by
  unfold pa_ex
  split
  · exact ⟨Nat.le_refl _, h⟩
  · next c9 =>
    by_cases q : s.1 < N
    · exact ⟨Nat.le_succ _, q⟩
    · unfold pa_xw pa_hr at c9
      rw [if_neg q] at c9
      have : ¬ ((-1 : Int) = c) := by omega
      simp [this] at c9
theorem pa_nbF_p {g : Nat → Int} {N : Nat} : ∀ (m : Nat) (r : Int × Nat × Bool), r.2.1 ≤ N → r.2.1 ≤ (pa_nbF g N m r).2.1 ∧ (pa_nbF g N m r).2.1 ≤ N
  | 0, r, h => ⟨Nat.le_refl _, h⟩
  | m + 1, r, h => by
    unfold pa_nbF
    split
    · exact ⟨Nat.le_refl _, h⟩
    · have h1 := pa_dg_p (g := g) (s := r.2) h
      have h2 := pa_nbF_p (g := g) m (10 * r.1 + (pa_dg g N r.2).1, (pa_dg g N r.2).2) h1.2
      exact ⟨Nat.le_trans h1.1 h2.1, h2.2⟩
theorem pa_nb_p {g : Nat → Int} {N : Nat} {s : Nat × Bool} (h : s.1 ≤ N) : s.1 ≤ (pa_nb g N s).2.1 ∧ (pa_nb g N s).2.1 ≤ N := by
  have h1 := pa_dg_p (g := g) h
  have h2 := pa_nbF_p (g := g) 2 (pa_dg g N s) h1.2
  exact ⟨Nat.le_trans h1.1 h2.1, h2.2⟩
theorem pa_n2_p {g : Nat → Int} {N : Nat} {c : Int} (hc : 0 ≤ c) {pos : Nat} {s : pa_S} (h : s.1.1 ≤ N) : s.1.1 ≤ (pa_n2 g N c pos s).1.1 ∧ (pa_n2 g N c pos s).1.1 ≤ N := by
  have h1 := pa_ex_p (g := g) hc h
  have h2 := pa_nb_p (g := g) h1.2
  exact ⟨Nat.le_trans h1.1 h2.1, h2.2⟩
theorem pa_d2_p {g : Nat → Int} {N : Nat} {pos : Nat} {s : pa_S} (h : s.1.1 ≤ N) : s.1.1 ≤ (pa_d2 g N pos s).1.1 ∧ (pa_d2 g N pos s).1.1 ≤ N := by
  have h1 := pa_ex_p (g := g) (c := 32) (by omega) h
  have h2 := pa_dg_p (g := g) h1.2
  exact ⟨Nat.le_trans h1.1 h2.1, h2.2⟩
theorem pa_a1_p {g : Nat → Int} {N k : Nat} {s : Nat × Bool} (h : s.1 ≤ N) : s.1 ≤ (pa_a1 g N k s).2.1 ∧ (pa_a1 g N k s).2.1 ≤ N := by
  unfold pa_a1
  split
  · exact ⟨Nat.le_refl _, h⟩
  · split
    · exact pa_nb_p h
    · exact pa_dg_p h
theorem pa_args_p {g : Nat → Int} {N k pos : Nat} {s : pa_S} (h : s.1.1 ≤ N) : s.1.1 ≤ (pa_args g N k pos s).1.1 ∧ (pa_args g N k pos s).1.1 ≤ N := by
  have h1 : ∀ k, s.1.1 ≤ (pa_a1 g N k s.1).2.1 ∧ (pa_a1 g N k s.1).2.1 ≤ N := fun k => pa_a1_p h
  unfold pa_args
  split
  · have h2 := pa_n2_p (g := g) (c := 32) (by omega) (pos := pos + 1) (s := ((pa_a1 g N 1 s.1).2, va_up s.2 pos (pa_a1 g N 1 s.1).1)) (h1 1).2
    have h3 := pa_n2_p (g := g) (c := 47) (by omega) (pos := pos + 2) h2.2
    exact ⟨Nat.le_trans (h1 1).1 (Nat.le_trans h2.1 h3.1), h3.2⟩
  · have h2 := pa_n2_p (g := g) (c := 32) (by omega) (pos := pos + 1) (s := ((pa_a1 g N 3 s.1).2, va_up s.2 pos (pa_a1 g N 3 s.1).1)) (h1 3).2
    exact ⟨Nat.le_trans (h1 3).1 h2.1, h2.2⟩
  · have h2 := pa_d2_p (g := g) (pos := pos + 1) (s := ((pa_a1 g N 5 s.1).2, va_up s.2 pos (pa_a1 g N 5 s.1).1)) (h1 5).2
    exact ⟨Nat.le_trans (h1 5).1 h2.1, h2.2⟩
  · have h2 := pa_n2_p (g := g) (c := 32) (by omega) (pos := pos + 1) (s := ((pa_a1 g N 6 s.1).2, va_up s.2 pos (pa_a1 g N 6 s.1).1)) (h1 6).2
    exact ⟨Nat.le_trans (h1 6).1 h2.1, h2.2⟩
  · have h2 := pa_n2_p (g := g) (c := 32) (by omega) (pos := pos + 1) (s := ((pa_a1 g N 8 s.1).2, va_up s.2 pos (pa_a1 g N 8 s.1).1)) (h1 8).2
    exact ⟨Nat.le_trans (h1 8).1 h2.1, h2.2⟩
  · have h2 := pa_n2_p (g := g) (c := 32) (by omega) (pos := pos + 1) (s := ((pa_a1 g N 9 s.1).2, va_up s.2 pos (pa_a1 g N 9 s.1).1)) (h1 9).2
    have h3 := pa_n2_p (g := g) (c := 32) (by omega) (pos := pos + 2) h2.2
    exact ⟨Nat.le_trans (h1 9).1 (Nat.le_trans h2.1 h3.1), h3.2⟩
  · have h2 := pa_d2_p (g := g) (pos := pos + 1) (s := ((pa_a1 g N 10 s.1).2, va_up s.2 pos (pa_a1 g N 10 s.1).1)) (h1 10).2
    exact ⟨Nat.le_trans (h1 10).1 h2.1, h2.2⟩
  · exact h1 _
theorem pa_lkF_le {g : Nat → Int} {N : Nat} : ∀ (m b p : Nat), pa_lkF g N b p m ≤ m ∧ (p ≤ N → p + pa_lkF g N b p m ≤ N)
  | 0, _, _ => by simp [pa_lkF]
  | m + 1, b, p => by
    have h := pa_lkF_le (g := g) (N := N) m (b + 1) (p + 1)
    unfold pa_lkF
    split
    · next c => exact ⟨by omega, fun _ => by have := h.2 (by omega); omega⟩
    · exact ⟨by omega, fun q => q⟩
theorem pa_best_le {g : Nat → Int} {N p : Nat} : ∀ n : Nat, pa_best g N p n ≤ n
  | 0 => Nat.le_refl _
  | n + 1 => by
    have := pa_best_le (g := g) (N := N) (p := p) n
    unfold pa_best
    split <;> omega
theorem pa_len_pos : ∀ k : Nat, k ≤ 10 → 4 ≤ pa_len k ∧ pa_len k ≤ 8 ∧ pa_beg k + pa_len k ≤ 66 := by
  intro k hk
  have : ∀ j : Fin 11, 4 ≤ pa_len j.val ∧ pa_len j.val ≤ 8 ∧ pa_beg j.val + pa_len j.val ≤ 66 := by decide
  exact this ⟨k, by omega⟩
/-- a command that is read takes something off the text -/
theorem pa_rc_p {g : Nat → Int} {N p : Nat} {cm : Nat → Int} {n : Nat} (h : p ≤ N) : p ≤ (pa_rc g N p cm n).1.1.1 ∧ (pa_rc g N p cm n).1.1.1 ≤ N ∧ n ≤ (pa_rc g N p cm n).2 ∧ (pa_rc g N p cm n).2 ≤ n + 1 ∧ ((pa_rc g N p cm n).1.1.2 = false → p < (pa_rc g N p cm n).1.1.1) ∧ ((pa_rc g N p cm n).2 = n + 1 → p + 4 ≤ (pa_rc g N p cm n).1.1.1) := by
  have h1 := pa_best_le (g := g) (N := N) (p := p) 10
  have h2 := pa_len_pos _ h1
  have h3 := pa_lkF_le (g := g) (N := N) (pa_len (pa_best g N p 10)) (pa_beg (pa_best g N p 10)) p
  have h4 : p + pa_lk g N p (pa_best g N p 10) ≤ N := h3.2 h
  unfold pa_rc
  split
  · exact ⟨Nat.le_add_right _ _, h4, Nat.le_refl _, Nat.le_succ _, fun q => (by cases q), fun q => absurd (show n = n + 1 from q) (by omega)⟩
  · next c =>
    have h5 := pa_args_p (g := g) (k := pa_best g N p 10) (pos := 4 * n + 1) (s := ((p + pa_lk g N p (pa_best g N p 10), false), va_up cm (4 * n) (pa_best g N p 10))) h4
    have h6 : p + pa_lk g N p (pa_best g N p 10) ≤ (pa_args g N (pa_best g N p 10) (4 * n + 1) ((p + pa_lk g N p (pa_best g N p 10), false), va_up cm (4 * n) (pa_best g N p 10))).1.1 := h5.1
    exact ⟨by show p ≤ (pa_args _ _ _ _ _).1.1; omega, h5.2, Nat.le_succ _, Nat.le_refl _, fun _ => by show p < (pa_args _ _ _ _ _).1.1; omega, fun _ => by show p + 4 ≤ (pa_args _ _ _ _ _).1.1; omega⟩
