set_option maxRecDepth 100000
section MODEL19
variable {G : pb_G} {h : pb_H} {o : Nat} {A : Nat → Nat} {x : Nat → Int} {F : Nat → Nat → Int} {t : Nat} {g : Nat → Int} {N : Nat}
theorem mo_save (hW : mo_W h o A x F) (h1r : pb_rg (F 0 1)) : pb_Ctr G mX4_save 5 0 0 [pb_r o] h (mo_Q o A h (some (pb_i (F 0 1))) (va_up (va_up x 9 0) 3 1) (va_up F 2 (mo_cp (F 0) (F 2) 213))) := by
  have hf : mo_Fr o A h h := mo_Fr.rf
  refine pb_Ctr.of rfl rfl rfl tX4_save_ok rfl ?_
  (try refine pb_Ex.run rfl ?_)
  refine pb_Ex.mput (x' := va_up x 9 0) rfl rfl hW hf rfl rfl trivial (fun h1 hW hf => ?_)
  (try refine pb_Ex.run rfl ?_)
  have loop : ∀ (m j : Nat) (h' : pb_H) (z : Int), j + m = 213 → z = j → mo_W h' o A (va_up x 9 0) (va_up F 2 (mo_cp (F 0) (F 2) j)) → mo_Fr o A h h' → pb_Ex G mX4_save 5 0 0 (mo_Q o A h (some (pb_i (F 0 1))) (va_up (va_up x 9 0) 3 1) (va_up F 2 (mo_cp (F 0) (F 2) 213))) 0 0 7 [some (pb_r o), some (pb_i z)] [] h' := by
    intro m
    induction m with
    | zero =>
      intro j h1 z hj hz hW hf
      have e1 : j = 213 := by omega
      subst e1 hz
      refine pb_Ex.run rfl ?_
      refine pb_Ex.icmpT rfl (by omega) (by omega) (by first | decide | (simp only [pb_cmp]; omega) | simp [pb_cmp]) ?_
      (try refine pb_Ex.run rfl ?_)
      refine pb_Ex.mput (x' := va_up (va_up x 9 0) 3 1) rfl rfl hW hf rfl rfl (by first | trivial | exact Or.inl rfl | exact Or.inr rfl | (show _ ∨ _; omega)) (fun h1 hW hf => ?_)
      (try refine pb_Ex.run rfl ?_)
      refine pb_Ex.getf (v := pb_r (A 0)) rfl rfl hW.1 rfl ?_
      (try refine pb_Ex.run rfl ?_)
      refine pb_Ex.iat (1) rfl hW.2.1 (by omega) (by omega) ?_
      (try refine pb_Ex.run rfl ?_)
      refine pb_Ex.iret rfl rfl (by omega) (by omega) (⟨rfl, hW, hf⟩)
    | succ m ih =>
      intro j h1 z hj hz hW hf
      subst hz
      refine pb_Ex.run rfl ?_
      refine pb_Ex.icmpF rfl (by omega) (by omega) (by first | decide | (simp only [pb_cmp]; omega) | simp [pb_cmp]) ?_
      (try refine pb_Ex.run rfl ?_)
      refine pb_Ex.getf (v := pb_r (A 2)) rfl rfl hW.1 rfl ?_
      (try refine pb_Ex.run rfl ?_)
      refine pb_Ex.getf (v := pb_r (A 0)) rfl rfl hW.1 rfl ?_
      (try refine pb_Ex.run rfl ?_)
      refine pb_Ex.iat (j) rfl hW.2.1 (by omega) (by omega) ?_
      (try refine pb_Ex.run rfl ?_)
      refine pb_Ex.msG 2 j rfl hW hf (by decide) rfl rfl (by show j < 213; omega) (fun h1 hW hf => ?_)
      refine pb_Ex.run rfl ?_
      have hW : mo_W h1 o A (va_up x 9 0) (va_up F 2 (va_up (mo_cp (F 0) (F 2) j) j (F 0 j))) := hW
      rw [mo_cp_s] at hW
      exact ih (j + 1) _ _ (by omega) (by omega) hW hf
  refine loop 213 0 _ 0 (by omega) rfl (hW.eqF ?_) hf
  rw [mo_cp_0]
  exact (va_upid F 2).symm
theorem mo_restore (hW : mo_W h o A x F) (h3 : x 3 = 0 ∨ x 3 = 1) (h1r : pb_rg (F 2 1)) : pb_Ctr G mX4_restore 5 0 0 [pb_r o] h (mo_Q o A h (some (pb_i (if x 3 = 0 then -1 else F 2 1))) (if x 3 = 0 then va_up x 9 1 else va_up (va_up x 9 0) 5 0) (if x 3 = 0 then F else va_up F 0 (mo_cp (F 2) (F 0) 213))) := by
  have hf : mo_Fr o A h h := mo_Fr.rf
  refine pb_Ctr.of rfl rfl rfl tX4_restore_ok rfl ?_
  (try refine pb_Ex.run rfl ?_)
  refine pb_Ex.mput (x' := va_up x 9 0) rfl rfl hW hf rfl rfl trivial (fun h1 hW hf => ?_)
  (try refine pb_Ex.run rfl ?_)
  refine pb_Ex.getf (v := pb_i (x 3)) rfl rfl hW.1 rfl ?_
  (try refine pb_Ex.run rfl ?_)
  refine pb_Ex.if_ne rfl (by omega) (fun c => ?_) (fun c => ?_)
  · rw [if_neg c, if_neg c, if_neg c]
    refine pb_Ex.run rfl ?_
    have loop : ∀ (m j : Nat) (h' : pb_H) (z : Int), j + m = 213 → z = j → mo_W h' o A (va_up x 9 0) (va_up F 0 (mo_cp (F 2) (F 0) j)) → mo_Fr o A h h' → pb_Ex G mX4_restore 5 0 0 (mo_Q o A h (some (pb_i (F 2 1))) (va_up (va_up x 9 0) 5 0) (va_up F 0 (mo_cp (F 2) (F 0) 213))) 0 0 20 [some (pb_r o), some (pb_i z)] [] h' := by
      intro m
      induction m with
      | zero =>
        intro j h1 z hj hz hW hf
        have e1 : j = 213 := by omega
        subst e1 hz
        refine pb_Ex.run rfl ?_
        refine pb_Ex.icmpT rfl (by omega) (by omega) (by first | decide | (simp only [pb_cmp]; omega) | simp [pb_cmp]) ?_
        (try refine pb_Ex.run rfl ?_)
        refine pb_Ex.mput (x' := va_up (va_up x 9 0) 5 0) rfl rfl hW hf rfl rfl (by first | trivial | exact Or.inl rfl | exact Or.inr rfl | (show _ ∨ _; omega)) (fun h1 hW hf => ?_)
        (try refine pb_Ex.run rfl ?_)
        refine pb_Ex.getf (v := pb_r (A 0)) rfl rfl hW.1 rfl ?_
        (try refine pb_Ex.run rfl ?_)
        refine pb_Ex.iat (1) rfl hW.2.1 (by omega) (by omega) ?_
        (try refine pb_Ex.run rfl ?_)
        have e2 : va_up F 0 (mo_cp (F 2) (F 0) 213) 0 1 = F 2 1 := by
          rw [va_upS]
          unfold mo_cp
          rw [if_pos (by omega)]
        rw [e2]
        refine pb_Ex.iret rfl rfl (by omega) (by omega) (⟨rfl, hW, hf⟩)
      | succ m ih =>
        intro j h1 z hj hz hW hf
        subst hz
        refine pb_Ex.run rfl ?_
        refine pb_Ex.icmpF rfl (by omega) (by omega) (by first | decide | (simp only [pb_cmp]; omega) | simp [pb_cmp]) ?_
        (try refine pb_Ex.run rfl ?_)
        refine pb_Ex.getf (v := pb_r (A 0)) rfl rfl hW.1 rfl ?_
        (try refine pb_Ex.run rfl ?_)
        refine pb_Ex.getf (v := pb_r (A 2)) rfl rfl hW.1 rfl ?_
        (try refine pb_Ex.run rfl ?_)
        refine pb_Ex.iat (j) rfl hW.2.2.2.1 (by omega) (by omega) ?_
        (try refine pb_Ex.run rfl ?_)
        refine pb_Ex.ms0 (j) rfl hW hf (by omega) (by omega) (fun h1 hW hf => ?_)
        (try refine pb_Ex.run rfl ?_)
        have hW : mo_W h1 o A (va_up x 9 0) (va_up F 0 (va_up (mo_cp (F 2) (F 0) j) j (F 2 j))) := hW
        rw [mo_cp_s] at hW
        exact ih (j + 1) _ _ (by omega) (by omega) hW hf
    refine loop 213 0 _ 0 (by omega) rfl (hW.eqF ?_) hf
    rw [mo_cp_0]
    exact (va_upid F 0).symm
  · rw [if_pos c, if_pos c, if_pos c]
    refine pb_Ex.run rfl ?_
    refine pb_Ex.mc rfl rfl rfl rfl hW hf rfl rfl (mo_throwing hW (1)) (by omega) (by omega) (by omega) (fun h1 hW hf => ?_)
    (try refine pb_Ex.run rfl ?_)
    refine pb_Ex.iret rfl rfl (by omega) (by omega) ⟨rfl, hW.eqx (va_upup _ _ _ _), hf⟩
theorem mo_undo (hW : mo_W h o A x F) (n : Nat) (h5 : x 5 = (n : Nat)) (hn : n ≤ 8) : pb_Ctr G mX4_undo 5 0 0 [pb_r o] h (mo_Q o A h (some (pb_i (if n = 0 then -1 else (n - 1 : Nat)))) (if n = 0 then va_up x 9 1 else va_up (va_up x 9 0) 5 (n - 1 : Nat)) (if n = 0 then F else va_up F 0 (mo_cp (fun j => F 4 (213 * (n - 1) + j)) (F 0) 213))) := by
  have hf : mo_Fr o A h h := mo_Fr.rf
  refine pb_Ctr.of rfl rfl rfl tX4_undo_ok rfl ?_
  (try refine pb_Ex.run rfl ?_)
  refine pb_Ex.mput (x' := va_up x 9 0) rfl rfl hW hf rfl rfl trivial (fun h1 hW hf => ?_)
  (try refine pb_Ex.run rfl ?_)
  refine pb_Ex.getf (v := pb_i (x 5)) rfl rfl hW.1 rfl ?_
  (try refine pb_Ex.run rfl ?_)
  rw [h5]
  refine pb_Ex.if_ne rfl (by omega) (fun c => ?_) (fun c => ?_)
  · have c0 : n ≠ 0 := by omega
    rw [if_neg c0, if_neg c0, if_neg c0]
    refine pb_Ex.run rfl ?_
    refine pb_Ex.getf (v := pb_i (x 5)) rfl rfl hW.1 rfl ?_
    (try refine pb_Ex.run rfl ?_)
    rw [h5]
    have e1 : (n : Int) - 1 = ((n - 1 : Nat) : Int) := by omega
    refine pb_Ex.mput (x' := va_up (va_up x 9 0) 5 ((n : Int) - 1)) rfl rfl hW hf rfl rfl (by first | trivial | exact Or.inl rfl | exact Or.inr rfl | (show _ ∨ _; omega)) (fun h1 hW hf => ?_)
    (try refine pb_Ex.run rfl ?_)
    rw [e1] at hW
    have loop : ∀ (m j : Nat) (h' : pb_H) (z : Int), j + m = 213 → z = j → mo_W h' o A (va_up (va_up x 9 0) 5 (n - 1 : Nat)) (va_up F 0 (mo_cp (fun j => F 4 (213 * (n - 1) + j)) (F 0) j)) → mo_Fr o A h h' → pb_Ex G mX4_undo 5 0 0 (mo_Q o A h (some (pb_i (n - 1 : Nat))) (va_up (va_up x 9 0) 5 (n - 1 : Nat)) (va_up F 0 (mo_cp (fun j => F 4 (213 * (n - 1) + j)) (F 0) 213))) 0 0 30 [some (pb_r o), some (pb_i z)] [] h' := by
      intro m
      induction m with
      | zero =>
        intro j h1 z hj hz hW hf
        have e1 : j = 213 := by omega
        subst e1 hz
        refine pb_Ex.run rfl ?_
        refine pb_Ex.icmpT rfl (by omega) (by omega) (by first | decide | (simp only [pb_cmp]; omega) | simp [pb_cmp]) ?_
        (try refine pb_Ex.run rfl ?_)
        refine pb_Ex.getf (v := pb_i (n - 1 : Nat)) rfl rfl hW.1 rfl ?_
        (try refine pb_Ex.run rfl ?_)
        refine pb_Ex.iret rfl rfl (by omega) (by omega) (⟨rfl, hW, hf⟩)
      | succ m ih =>
        intro j h1 z hj hz hW hf
        subst hz
        refine pb_Ex.run rfl ?_
        refine pb_Ex.icmpF rfl (by omega) (by omega) (by first | decide | (simp only [pb_cmp]; omega) | simp [pb_cmp]) ?_
        (try refine pb_Ex.run rfl ?_)
        refine pb_Ex.getf (v := pb_r (A 0)) rfl rfl hW.1 rfl ?_
        (try refine pb_Ex.run rfl ?_)
        refine pb_Ex.getf (v := pb_r (A 4)) rfl rfl hW.1 rfl ?_
        (try refine pb_Ex.run rfl ?_)
        refine pb_Ex.getf (v := pb_i (n - 1 : Nat)) rfl rfl hW.1 rfl ?_
        (try refine pb_Ex.run rfl ?_)
        refine pb_Ex.iat (213 * (n - 1) + j) rfl hW.2.2.2.2.1 (by push_cast; rfl) (by omega) ?_
        refine pb_Ex.ms0 (j) rfl hW hf (by omega) (by omega) (fun h1 hW hf => ?_)
        (try refine pb_Ex.run rfl ?_)
        have hW : mo_W h1 o A (va_up (va_up x 9 0) 5 (n - 1 : Nat)) (va_up F 0 (va_up (mo_cp (fun j => F 4 (213 * (n - 1) + j)) (F 0) j) j (F 4 (213 * (n - 1) + j)))) := hW
        rw [mo_cp_s (fun j => F 4 (213 * (n - 1) + j))] at hW
        exact ih (j + 1) _ _ (by omega) (by omega) hW hf
    refine loop 213 0 _ 0 (by omega) rfl (hW.eqF ?_) hf
    rw [mo_cp_0]
    exact (va_upid F 0).symm
  · have c0 : n = 0 := by omega
    rw [if_pos c0, if_pos c0, if_pos c0]
    refine pb_Ex.run rfl ?_
    refine pb_Ex.mc rfl rfl rfl rfl hW hf rfl rfl (mo_throwing hW (1)) (by omega) (by omega) (by omega) (fun h1 hW hf => ?_)
    (try refine pb_Ex.run rfl ?_)
    refine pb_Ex.iret rfl rfl (by omega) (by omega) ⟨rfl, hW.eqx (va_upup _ _ _ _), hf⟩
end MODEL19
