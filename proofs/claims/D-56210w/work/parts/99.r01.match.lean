set_option maxRecDepth 100000
/-! MATCHINGS of the hulls P on the slips: s i is the hull on slip i, -1 none -/
theorem ya_sum4 (g : Nat → Int) : ya_sum g 4 = g 0 + g 1 + g 2 + g 3 := by
  show 0 + g 0 + g 1 + g 2 + g 3 = _
  omega
def ma_ok (f : Nat → Int) (P : Nat → Prop) (s : Nat → Int) : Prop := (∀ i, i < 4 → s i = -1 ∨ (0 ≤ s i ∧ P (s i).toNat ∧ ya_ft f (s i).toNat i)) ∧ ∀ i j, i < 4 → j < 4 → i ≠ j → s i = s j → s i = -1
def ma_d (s : Nat → Int) (i : Nat) : Int := if s i = -1 then 0 else 1
theorem ma_d01 (s : Nat → Int) (i : Nat) : 0 ≤ ma_d s i ∧ ma_d s i ≤ 1 := by unfold ma_d; split <;> omega
def ma_n (s : Nat → Int) : Int := ya_sum (ma_d s) 4
theorem ma_n4 (s : Nat → Int) : 0 ≤ ma_n s ∧ ma_n s ≤ 4 := by
  unfold ma_n
  rw [ya_sum4]
  have h0 := ma_d01 s 0
  have h1 := ma_d01 s 1
  have h2 := ma_d01 s 2
  have h3 := ma_d01 s 3
  omega
/-- m is the most -/
def ma_max (f : Nat → Int) (P : Nat → Prop) (m : Int) : Prop := (∃ s, ma_ok f P s ∧ ma_n s = m) ∧ ∀ s, ma_ok f P s → ma_n s ≤ m
theorem ma_ok.mono {f : Nat → Int} {P P' : Nat → Prop} {s : Nat → Int} (h : ma_ok f P s) (hP : ∀ z, P z → P' z) : ma_ok f P' s := ⟨fun i hi => (h.1 i hi).imp id (fun q => ⟨q.1, hP _ q.2.1, q.2.2⟩), h.2⟩
theorem ma_max.eq {f : Nat → Int} {P : Nat → Prop} {m m' : Int} (h : ma_max f P m) (h' : ma_max f P m') : m = m' := by
  obtain ⟨⟨s, a1, a2⟩, a3⟩ := h
  obtain ⟨⟨s', b1, b2⟩, b3⟩ := h'
  have := b3 s a1
  have := a3 s' b1
  omega
/-- only hulls that fit somewhere count -/
theorem ma_max.re {f : Nat → Int} {P P' : Nat → Prop} {m : Int} (h : ma_max f P m) (h1 : ∀ z i, i < 4 → ya_ft f z i → (P z ↔ P' z)) : ma_max f P' m := by
  obtain ⟨⟨s, a1, a2⟩, a3⟩ := h
  refine ⟨⟨s, ⟨fun i hi => (a1.1 i hi).imp id (fun q => ⟨q.1, (h1 _ i hi q.2.2).mp q.2.1, q.2.2⟩), a1.2⟩, a2⟩, fun s' b => a3 s' ⟨fun i hi => (b.1 i hi).imp id (fun q => ⟨q.1, (h1 _ i hi q.2.2).mpr q.2.1, q.2.2⟩), b.2⟩⟩
/-- one hull more, and one more on the slips -/
theorem ma_max.add {f : Nat → Int} {P P' : Nat → Prop} {m : Int} {s : Nat → Int} {x : Nat} (h : ma_max f P m) (hs : ma_ok f P' s) (hn : ma_n s = m + 1) (hP : ∀ z, P' z → P z ∨ z = x) : ma_max f P' (m + 1) := by
  refine ⟨⟨s, hs, hn⟩, fun N hN => ?_⟩
  have ho : ma_ok f P (fun i => if N i = x then -1 else N i) := by
    refine ⟨fun i hi => ?_, fun i j hi hj hij e => ?_⟩
    · show (if N i = (x : Int) then -1 else N i) = -1 ∨ (0 ≤ (if N i = (x : Int) then -1 else N i) ∧ P (if N i = (x : Int) then -1 else N i).toNat ∧ ya_ft f (if N i = (x : Int) then -1 else N i).toNat i)
      by_cases c : N i = (x : Int)
      · rw [if_pos c]; exact Or.inl rfl
      · rw [if_neg c]
        rcases hN.1 i hi with q | ⟨q1, q2, q3⟩
        · exact Or.inl q
        · refine Or.inr ⟨q1, ?_, q3⟩
          rcases hP _ q2 with q | q
          · exact q
          · exact absurd (by omega) c
    · have e : (if N i = (x : Int) then -1 else N i) = (if N j = (x : Int) then -1 else N j) := e
      show (if N i = (x : Int) then -1 else N i) = -1
      by_cases c : N i = (x : Int)
      · rw [if_pos c]
      · rw [if_neg c] at e ⊢
        by_cases c2 : N j = (x : Int)
        · rw [if_pos c2] at e; exact e
        · rw [if_neg c2] at e; exact hN.2 i j hi hj hij e
  have hle := h.2 _ ho
  have hd : ∀ i, i < 4 → ma_d N i ≤ ma_d (fun i => if N i = (x : Int) then -1 else N i) i + (if N i = (x : Int) then 1 else 0) := fun i hi => by
    have := ma_d01 N i
    have h2 := ma_d01 (fun i => if N i = (x : Int) then -1 else N i) i
    by_cases c : N i = (x : Int)
    · rw [if_pos c]; omega
    · have e : ma_d (fun i => if N i = (x : Int) then -1 else N i) i = ma_d N i := by
        unfold ma_d
        show (if (if N i = (x : Int) then -1 else N i) = -1 then (0 : Int) else 1) = _
        rw [if_neg c]
      rw [e, if_neg c]; omega
  have he : ∀ i j, i < 4 → j < 4 → i ≠ j → (if N i = (x : Int) then (1 : Int) else 0) + (if N j = (x : Int) then 1 else 0) ≤ 1 := fun i j hi hj hij => by
    by_cases c : N i = (x : Int)
    · by_cases c2 : N j = (x : Int)
      · have := hN.2 i j hi hj hij (by rw [c, c2])
        omega
      · rw [if_neg c2]; split <;> omega
    · rw [if_neg c]; split <;> omega
  have g : ∀ i, 0 ≤ (if N i = (x : Int) then (1 : Int) else 0) ∧ (if N i = (x : Int) then (1 : Int) else 0) ≤ 1 := fun i => by split <;> omega
  unfold ma_n at hle ⊢
  rw [ya_sum4] at hle ⊢
  have a0 := hd 0 (by omega)
  have a1 := hd 1 (by omega)
  have a2 := hd 2 (by omega)
  have a3 := hd 3 (by omega)
  have b01 := he 0 1 (by omega) (by omega) (by omega)
  have b02 := he 0 2 (by omega) (by omega) (by omega)
  have b03 := he 0 3 (by omega) (by omega) (by omega)
  have b12 := he 1 2 (by omega) (by omega) (by omega)
  have b13 := he 1 3 (by omega) (by omega) (by omega)
  have b23 := he 2 3 (by omega) (by omega) (by omega)
  have g0 := g 0
  have g1 := g 1
  have g2 := g 2
  have g3 := g 3
  revert a0 a1 a2 a3 b01 b02 b03 b12 b13 b23 g0 g1 g2 g3
  generalize (if N 0 = (x : Int) then (1 : Int) else 0) = e0
  generalize (if N 1 = (x : Int) then (1 : Int) else 0) = e1
  generalize (if N 2 = (x : Int) then (1 : Int) else 0) = e2
  generalize (if N 3 = (x : Int) then (1 : Int) else 0) = e3
  intros
  omega
/-- one hull more that brings nothing: the slips T, all of them with hulls M that fit no other slips -/
theorem ma_max.same {f : Nat → Int} {P P' : Nat → Prop} {m : Int} {M : Nat → Int} {T : Nat → Bool} (h : ma_max f P m) (hP : ∀ z, P z → P' z) (hM : ma_ok f P M) (hT : ∀ i, i < 4 → T i = true → M i ≠ -1) (hx : ∀ z i, i < 4 → T i = false → P' z → ya_ft f z i → P z ∧ ∀ j, j < 4 → T j = true → M j ≠ (z : Int)) : ma_max f P' m := by
  obtain ⟨⟨s, a1, a2⟩, a3⟩ := h
  refine ⟨⟨s, a1.mono hP, a2⟩, fun N hN => ?_⟩
  have nT : ∀ i, i < 4 → T i = false → N i ≠ -1 → 0 ≤ N i ∧ P (N i).toNat ∧ ya_ft f (N i).toNat i ∧ ∀ j, j < 4 → T j = true → M j ≠ N i := fun i hi hTi hn => by
    rcases hN.1 i hi with q | ⟨q1, q2, q3⟩
    · exact absurd q hn
    · obtain ⟨r1, r2⟩ := hx _ i hi hTi q2 q3
      refine ⟨q1, r1, q3, fun j hj hTj e => r2 j hj hTj (by omega)⟩
  have ho : ma_ok f P (fun i => if T i = true then M i else N i) := by
    refine ⟨fun i hi => ?_, fun i j hi hj hij e => ?_⟩
    · show (if T i = true then M i else N i) = -1 ∨ (0 ≤ (if T i = true then M i else N i) ∧ P (if T i = true then M i else N i).toNat ∧ ya_ft f (if T i = true then M i else N i).toNat i)
      by_cases c : T i = true
      · rw [if_pos c]; exact hM.1 i hi
      · rw [if_neg c]
        by_cases c2 : N i = -1
        · exact Or.inl c2
        · obtain ⟨r1, r2, r3, -⟩ := nT i hi (by simpa using c) c2
          exact Or.inr ⟨r1, r2, r3⟩
    · have e : (if T i = true then M i else N i) = (if T j = true then M j else N j) := e
      show (if T i = true then M i else N i) = -1
      by_cases c : T i = true
      · rw [if_pos c] at e ⊢
        by_cases c2 : T j = true
        · rw [if_pos c2] at e; exact hM.2 i j hi hj hij e
        · rw [if_neg c2] at e
          by_cases c3 : N j = -1
          · rw [e]; exact c3
          · exact absurd e ((nT j hj (by simpa using c2) c3).2.2.2 i hi c)
      · rw [if_neg c] at e ⊢
        by_cases c2 : T j = true
        · rw [if_pos c2] at e
          by_cases c3 : N i = -1
          · exact c3
          · exact absurd e.symm ((nT i hi (by simpa using c) c3).2.2.2 j hj c2)
        · rw [if_neg c2] at e; exact hN.2 i j hi hj hij e
  have hle := a3 _ ho
  have hd : ∀ i, i < 4 → ma_d N i ≤ ma_d (fun i => if T i = true then M i else N i) i := fun i hi => by
    by_cases c : T i = true
    · have e : ma_d (fun i => if T i = true then M i else N i) i = 1 := by
        unfold ma_d
        show (if (if T i = true then M i else N i) = -1 then (0 : Int) else 1) = 1
        rw [if_pos c, if_neg (hT i hi c)]
      rw [e]; exact (ma_d01 N i).2
    · have e : ma_d (fun i => if T i = true then M i else N i) i = ma_d N i := by
        unfold ma_d
        show (if (if T i = true then M i else N i) = -1 then (0 : Int) else 1) = _
        rw [if_neg c]
      rw [e]; exact Int.le_refl _
  unfold ma_n at hle ⊢
  rw [ya_sum4] at hle ⊢
  have b0 := hd 0 (by omega)
  have b1 := hd 1 (by omega)
  have b2 := hd 2 (by omega)
  have b3 := hd 3 (by omega)
  omega
