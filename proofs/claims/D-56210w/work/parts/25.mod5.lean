set_option maxRecDepth 100000
/-- the first n of f, the rest of g -/
def mo_cp (f g : Nat → Int) (n : Nat) : Nat → Int := fun j => if j < n then f j else g j
theorem mo_cp_s (f g : Nat → Int) (n : Nat) : va_up (mo_cp f g n) n (f n) = mo_cp f g (n + 1) := by
  funext j
  unfold mo_cp
  by_cases h : j = n
  · subst h
    rw [va_upS, if_pos (by omega)]
  · rw [va_upN _ _ h]
    by_cases h2 : j < n
    · rw [if_pos h2, if_pos (by omega)]
    · rw [if_neg h2, if_neg (by omega)]
theorem mo_cp_0 (f g : Nat → Int) : mo_cp f g 0 = g := by
  funext j
  unfold mo_cp
  rw [if_neg (by omega)]
/-- the history's blocks: an elder block is dropped if there are eight -/
def mo_ps (p : Nat → Int) (c : Int) : Nat → Int := if c = 8 then fun j => if j < 1491 then p (j + 213) else p j else p
def mo_pc (c : Int) : Int := if c = 8 then 7 else c
/-- a block is laid behind c blocks -/
def mo_pl (p a : Nat → Int) (c n : Nat) : Nat → Int := fun j => if 213 * c ≤ j ∧ j < 213 * c + n then a (j - 213 * c) else p j
section MODEL5
variable {G : pb_G} {h : pb_H} {o : Nat} {A : Nat → Nat} {x : Nat → Int} {F : Nat → Nat → Int} {t : Nat} {g : Nat → Int}
theorem mo_passesHourG (hW : mo_W h o A x (va_up F 0 g)) (ok : ya_ok t g) : pb_Ctr G mX4_passesHour 6 0 0 [pb_r o] h (mo_Q o A h (some (pb_i (sp_hour g).2)) x (va_up F 0 (sp_hour g).1)) := by
  have h1 := mo_passesHour (G := G) hW (t := t) (F := va_up F 0 g) ok
  have e : va_up (va_up F 0 g) 0 (sp_hour (va_up F 0 g 0)).1 = va_up F 0 (sp_hour g).1 := by rw [va_upup, va_upS]
  rw [e, va_upS] at h1
  exact h1
theorem mo_hoursIt (hW : mo_W h o A x F) (ok : ya_ok t (F 0)) (ht : t + 99 ≤ 200000) (v : Int) (hv : pb_rg v) : pb_Ctr G mX4_hoursIt 7 0 0 [pb_r o, pb_i v] h (mo_Q o A h (some (pb_i (sp_pass (F 0) v).2.1)) (mo_S x (sp_pass (F 0) v).1) (va_up F 0 (sp_pass (F 0) v).2.2)) := by
  have hf : mo_Fr o A h h := mo_Fr.rf
  unfold sp_pass
  refine pb_Ctr.of rfl rfl rfl tX4_hoursIt_ok rfl ?_
  (try refine pb_Ex.run rfl ?_)
  refine pb_Ex.i2l rfl (by omega) ?_
  (try refine pb_Ex.run rfl ?_)
  refine pb_Ex.ldc2 rfl rfl rfl ?_
  (try refine pb_Ex.run rfl ?_)
  refine pb_Ex.pS rfl rfl rfl rfl (mo_inn v 1 99 (by omega) (by omega) (by omega)) (by omega) (by omega) (by omega) ?_
  (try refine pb_Ex.run rfl ?_)
  unfold mo_in
  by_cases c : 1 ≤ v ∧ v ≤ 99
  · rw [if_pos c, if_neg (by omega)]
    refine pb_Ex.ifT rfl (by omega) (by first | decide | (simp only [pb_cmp]; omega) | simp [pb_cmp]) ?_
    (try refine pb_Ex.run rfl ?_)
    have loop : ∀ (m j : Nat) (h' : pb_H) (s z : Int), j + m = v.toNat → z = j → s = (sp_hrs (F 0) j).2 → mo_W h' o A x (va_up F 0 (sp_hrs (F 0) j).1) → mo_Fr o A h h' → pb_Ex G mX4_hoursIt 7 0 0 (mo_Q o A h (some (pb_i (sp_hrs (F 0) v.toNat).2)) x (va_up F 0 (sp_hrs (F 0) v.toNat).1)) 0 0 22 [some (pb_r o), some (pb_i v), some (pb_i s), some (pb_i z)] [] h' := by
      intro m
      induction m with
      | zero =>
        intro j h' s z hj hz hs hW hf
        refine pb_Ex.run rfl ?_
        refine pb_Ex.icmpT rfl (by omega) (by omega) (by first | decide | (simp only [pb_cmp]; omega) | simp [pb_cmp]) ?_
        (try refine pb_Ex.run rfl ?_)
        have e1 : j = v.toNat := by omega
        subst e1 hs
        refine pb_Ex.iret rfl rfl (by omega) (by omega) (⟨rfl, hW, hf⟩)
      | succ m ih =>
        intro j h' s z hj hz hs hW hf
        refine pb_Ex.run rfl ?_
        refine pb_Ex.icmpF rfl (by omega) (by omega) (by first | decide | (simp only [pb_cmp]; omega) | simp [pb_cmp]) ?_
        (try refine pb_Ex.run rfl ?_)
        refine pb_Ex.mc rfl rfl rfl rfl hW hf rfl rfl (mo_passesHourG hW (sp_hrs_ok ok j (by omega))) (by omega) (by omega) (by omega) (fun h1 hW hf => ?_)
        (try refine pb_Ex.run rfl ?_)
        exact ih (j + 1) _ _ _ (by omega) (by omega) (by rw [sp_hrs, hs]) hW hf
    exact loop v.toNat 0 _ 0 0 (by omega) rfl rfl hW.s0 hf
  · rw [if_neg c, if_pos c]
    refine pb_Ex.ifF rfl (by omega) (by first | decide | (simp only [pb_cmp]; omega) | simp [pb_cmp]) ?_
    (try refine pb_Ex.run rfl ?_)
    have hW := hW.s0
    refine pb_Ex.mc rfl rfl rfl rfl hW hf rfl rfl (mo_throwing hW (1)) (by omega) (by omega) (by omega) (fun h1 hW hf => ?_)
    (try refine pb_Ex.run rfl ?_)
    refine pb_Ex.iret rfl rfl (by omega) (by omega) ⟨rfl, hW, hf⟩
theorem mo_starts (hW : mo_W h o A x F) : pb_Ctr G mX4_starts 1 0 0 [pb_r o] h (mo_Q o A h none (va_up x 9 0) (va_up F 1 (mo_cp (F 0) (F 1) 213))) := by
  have hf : mo_Fr o A h h := mo_Fr.rf
  refine pb_Ctr.of rfl rfl rfl tX4_starts_ok rfl ?_
  (try refine pb_Ex.run rfl ?_)
  refine pb_Ex.mput (x' := va_up x 9 0) rfl rfl hW hf rfl rfl (by first | trivial | exact Or.inl rfl | exact Or.inr rfl | (show _ ∨ _; omega)) (fun h1 hW hf => ?_)
  (try refine pb_Ex.run rfl ?_)
  have loop : ∀ (m j : Nat) (h' : pb_H) (z : Int), j + m = 213 → z = j → mo_W h' o A (va_up x 9 0) (va_up F 1 (mo_cp (F 0) (F 1) j)) → mo_Fr o A h h' → pb_Ex G mX4_starts 1 0 0 (mo_Q o A h none (va_up x 9 0) (va_up F 1 (mo_cp (F 0) (F 1) 213))) 0 0 7 [some (pb_r o), some (pb_i z)] [] h' := by
    intro m
    induction m with
    | zero =>
      intro j h' z hj hz hW hf
      refine pb_Ex.run rfl ?_
      refine pb_Ex.icmpT rfl (by omega) (by omega) (by first | decide | (simp only [pb_cmp]; omega) | simp [pb_cmp]) ?_
      (try refine pb_Ex.run rfl ?_)
      have e1 : j = 213 := by omega
      subst e1
      refine pb_Ex.vret rfl rfl (by omega) (by omega) (⟨rfl, hW, hf⟩)
    | succ m ih =>
      intro j h' z hj hz hW hf
      refine pb_Ex.run rfl ?_
      refine pb_Ex.icmpF rfl (by omega) (by omega) (by first | decide | (simp only [pb_cmp]; omega) | simp [pb_cmp]) ?_
      (try refine pb_Ex.run rfl ?_)
      subst hz
      refine pb_Ex.getf rfl rfl hW.1 rfl ?_
      (try refine pb_Ex.run rfl ?_)
      refine pb_Ex.getf rfl rfl hW.1 rfl ?_
      (try refine pb_Ex.run rfl ?_)
      refine pb_Ex.iat (j) rfl hW.2.1 (by omega) (by omega) ?_
      (try refine pb_Ex.run rfl ?_)
      refine pb_Ex.mst (1) (j) rfl hW hf (by decide) rfl (by omega) (by first | decide | (show _ < 213; omega) | (show _ < 1704; omega) | (show _ < 244; omega) | (show _ < 100; omega) | (show _ < 60; omega) | (show _ < 8; omega)) (fun h1 hW hf => ?_)
      (try refine pb_Ex.run rfl ?_)
      refine ih (j + 1) _ _ (by omega) (by omega) (hW.eqF ?_) hf
      rw [va_upup, va_upS]
      show va_up F 1 (va_up (mo_cp (F 0) (F 1) j) j (F 0 j)) = _
      rw [mo_cp_s]
  refine loop 213 0 _ 0 (by omega) rfl (hW.eqF ?_) hf
  rw [mo_cp_0, va_upid]
/-- the model's numbers and arrays behind 'changed' -/
def mo_cx (x : Nat → Int) : Nat → Int := if 0 < x 9 then x else va_up x 5 (mo_pc (x 5) + 1)
def mo_cF (x : Nat → Int) (F : Nat → Nat → Int) : Nat → Nat → Int := if 0 < x 9 then F else va_up F 4 (mo_pl (mo_ps (F 4) (x 5)) (F 1) (mo_pc (x 5)).toNat 213)
theorem mo_changed (hW : mo_W h o A x F) (h9 : 0 ≤ x 9 ∧ x 9 ≤ 3) (h5 : 0 ≤ x 5 ∧ x 5 ≤ 8) (v : Int) (hv : pb_rg v) : pb_Ctr G mX4_changed 1 0 0 [pb_r o, pb_i v] h (mo_Q o A h (some (pb_i v)) (mo_cx x) (mo_cF x F)) := by
  have hf : mo_Fr o A h h := mo_Fr.rf
  unfold mo_cx mo_cF
  refine pb_Ctr.of rfl rfl rfl tX4_changed_ok rfl ?_
  (try refine pb_Ex.run rfl ?_)
  refine pb_Ex.getf rfl rfl hW.1 rfl ?_
  (try refine pb_Ex.run rfl ?_)
  refine pb_Ex.if_le rfl (by omega) (fun c => ?_) (fun c => ?_)
  · rw [if_neg (by omega), if_neg (by omega)]
    refine pb_Ex.run rfl ?_
    refine pb_Ex.getf rfl rfl hW.1 rfl ?_
    (try refine pb_Ex.run rfl ?_)
    have part2 : ∀ (h' : pb_H) (l2 : Option pb_V), mo_W h' o A (va_up x 5 (mo_pc (x 5))) (va_up F 4 (mo_ps (F 4) (x 5))) → mo_Fr o A h h' → pb_Ex G mX4_changed 1 0 0 (mo_Q o A h (some (pb_i v)) (va_up x 5 (mo_pc (x 5) + 1)) (va_up F 4 (mo_pl (mo_ps (F 4) (x 5)) (F 1) (mo_pc (x 5)).toNat 213))) 0 0 59 [some (pb_r o), some (pb_i v), l2] [] h' := by
      intro h' l2 hW hf
      have hc : 0 ≤ mo_pc (x 5) ∧ mo_pc (x 5) ≤ 7 := by unfold mo_pc; split <;> omega
      obtain ⟨cc, hcc⟩ := Int.eq_ofNat_of_zero_le hc.1
      rw [hcc] at hW hc ⊢
      rw [Int.toNat_natCast]
      refine pb_Ex.run rfl ?_
      have loop : ∀ (m j : Nat) (h' : pb_H) (z : Int), j + m = 213 → z = j → mo_W h' o A (va_up x 5 (cc : Int)) (va_up F 4 (mo_pl (mo_ps (F 4) (x 5)) (F 1) cc j)) → mo_Fr o A h h' → pb_Ex G mX4_changed 1 0 0 (mo_Q o A h (some (pb_i v)) (va_up x 5 ((cc : Int) + 1)) (va_up F 4 (mo_pl (mo_ps (F 4) (x 5)) (F 1) cc 213))) 0 0 61 [some (pb_r o), some (pb_i v), some (pb_i z)] [] h' := by
        intro m
        induction m with
        | zero =>
          intro j h' z hj hz hW hf
          refine pb_Ex.run rfl ?_
          refine pb_Ex.icmpT rfl (by omega) (by omega) (by first | decide | (simp only [pb_cmp]; omega) | simp [pb_cmp]) ?_
          (try refine pb_Ex.run rfl ?_)
          refine pb_Ex.getf rfl rfl hW.1 rfl ?_
          (try refine pb_Ex.run rfl ?_)
          have e1 : j = 213 := by omega
          subst e1
          refine pb_Ex.mput (x' := va_up x 5 ((cc : Int) + 1)) rfl rfl hW hf rfl rfl trivial (fun h1 hW hf => ?_)
          refine pb_Ex.run rfl ?_
          refine pb_Ex.iret rfl rfl (by omega) (by omega) (⟨rfl, hW, hf⟩)
        | succ m ih =>
          intro j h' z hj hz hW hf
          refine pb_Ex.run rfl ?_
          refine pb_Ex.icmpF rfl (by omega) (by omega) (by first | decide | (simp only [pb_cmp]; omega) | simp [pb_cmp]) ?_
          (try refine pb_Ex.run rfl ?_)
          subst hz
          refine pb_Ex.getf rfl rfl hW.1 rfl ?_
          (try refine pb_Ex.run rfl ?_)
          refine pb_Ex.getf rfl rfl hW.1 rfl ?_
          (try refine pb_Ex.run rfl ?_)
          refine pb_Ex.getf rfl rfl hW.1 rfl ?_
          (try refine pb_Ex.run rfl ?_)
          refine pb_Ex.iat (j) rfl hW.2.2.1 (by omega) (by omega) ?_
          (try refine pb_Ex.run rfl ?_)
          refine pb_Ex.mst 4 (213 * cc + j) rfl hW hf (by decide) rfl (by show 213 * (cc : Int) + (j : Int) = _; push_cast; rfl) (by show 213 * cc + j < 1704; omega) (fun h1 hW hf => ?_)
          refine pb_Ex.run rfl ?_
          refine ih (j + 1) _ _ (by omega) (by omega) (hW.eqF ?_) hf
          rw [va_upup, va_upS]
          congr 1
          show va_up (mo_pl (mo_ps (F 4) (x 5)) (F 1) cc j) (213 * cc + j) (F 1 j) = _
          funext i
          unfold mo_pl
          by_cases h7 : i = 213 * cc + j
          · subst h7
            rw [va_upS, if_pos (by omega), Nat.add_sub_cancel_left]
          · rw [va_upN _ _ h7]
            by_cases h8 : 213 * cc ≤ i ∧ i < 213 * cc + j
            · rw [if_pos h8, if_pos (by omega)]
            · rw [if_neg h8, if_neg (by omega)]
      refine loop 213 0 _ 0 (by omega) rfl (hW.eqF ?_) hf
      congr 1
      funext i
      unfold mo_pl
      rw [if_neg (by omega)]
    refine pb_Ex.icmp_ne rfl (by omega) (by omega) (fun c5 => ?_) (fun c5 => ?_)
    · refine part2 _ _ (mo_W.eqF (hW.eqx ?_) ?_) hf
      · unfold mo_pc
        rw [if_neg c5, va_upid]
      · unfold mo_ps
        rw [if_neg c5, va_upid]
    · refine pb_Ex.run rfl ?_
      have loop : ∀ (m j : Nat) (h' : pb_H) (z : Int), j + m = 1491 → z = j → mo_W h' o A x (va_up F 4 (fun i => if i < j then F 4 (i + 213) else F 4 i)) → mo_Fr o A h h' → pb_Ex G mX4_changed 1 0 0 (mo_Q o A h (some (pb_i v)) (va_up x 5 (mo_pc (x 5) + 1)) (va_up F 4 (mo_pl (mo_ps (F 4) (x 5)) (F 1) (mo_pc (x 5)).toNat 213))) 0 0 20 [some (pb_r o), some (pb_i v), some (pb_i z)] [] h' := by
        intro m
        induction m with
        | zero =>
          intro j h' z hj hz hW hf
          refine pb_Ex.run rfl ?_
          refine pb_Ex.icmpT rfl (by omega) (by omega) (by first | decide | (simp only [pb_cmp]; omega) | simp [pb_cmp]) ?_
          (try refine pb_Ex.run rfl ?_)
          refine pb_Ex.getf rfl rfl hW.1 rfl ?_
          (try refine pb_Ex.run rfl ?_)
          have e1 : j = 1491 := by omega
          subst e1
          refine pb_Ex.mput (x' := va_up x 5 (mo_pc (x 5))) rfl rfl hW hf (by unfold mo_pc; rw [if_pos c5]; show _ = mo_fl A (va_up x 5 7); have e7 : x 5 - 1 = 7 := by omega
                                                                              rw [e7]; rfl) rfl trivial (fun h1 hW hf => ?_)
          refine part2 _ _ (hW.eqF ?_) hf
          unfold mo_ps
          rw [if_pos c5]
        | succ m ih =>
          intro j h' z hj hz hW hf
          refine pb_Ex.run rfl ?_
          refine pb_Ex.icmpF rfl (by omega) (by omega) (by first | decide | (simp only [pb_cmp]; omega) | simp [pb_cmp]) ?_
          (try refine pb_Ex.run rfl ?_)
          subst hz
          refine pb_Ex.getf rfl rfl hW.1 rfl ?_
          (try refine pb_Ex.run rfl ?_)
          refine pb_Ex.getf rfl rfl hW.1 rfl ?_
          (try refine pb_Ex.run rfl ?_)
          refine pb_Ex.iat (j + 213) rfl hW.2.2.2.2.1 (by omega) (by omega) ?_
          (try refine pb_Ex.run rfl ?_)
          refine pb_Ex.mst 4 j rfl hW hf (by decide) rfl rfl (by show j < 1704; omega) (fun h1 hW hf => ?_)
          refine pb_Ex.run rfl ?_
          refine ih (j + 1) _ _ (by omega) (by omega) (hW.eqF ?_) hf
          rw [va_upup, va_upS]
          congr 1
          funext i
          have e2 : (if j + 213 < j then F 4 (j + 213 + 213) else F 4 (j + 213)) = F 4 (j + 213) := if_neg (by omega)
          by_cases h7 : i = j
          · subst h7
            rw [va_upS]
            show (if i + 213 < i then F 4 (i + 213 + 213) else F 4 (i + 213)) = _
            rw [e2, if_pos (by omega)]
          · rw [va_upN _ _ h7]
            by_cases h8 : i < j
            · rw [if_pos h8, if_pos (by omega)]
            · rw [if_neg h8, if_neg (by omega)]
      refine loop 1491 0 _ 0 (by omega) rfl (hW.eqF ?_) hf
      have e3 : (fun i => if i < 0 then F 4 (i + 213) else F 4 i) = F 4 := by
        funext i
        rw [if_neg (by omega)]
      rw [e3, va_upid]
  · rw [if_pos (by omega), if_pos (by omega)]
    refine pb_Ex.run rfl ?_
    refine pb_Ex.iret rfl rfl (by omega) (by omega) (⟨rfl, hW, hf⟩)
end MODEL5
