set_option maxRecDepth 100000
section ROWS38
variable {G : pb_G} {M M2 : pb_M} {n C S : Nat} {Q : pb_O → pb_H → Prop} {k u pc : Nat} {L : List (Option pb_V)} {st : List pb_V} {h h0 : pb_H} {o : Nat} {A : Nat → Nat} {x : Nat → Int} {F : Nat → Nat → Int}
/-- a switch: its target among the given places -/
theorem pb_Ex.tswI {dflt lo hi off : Int} {offs : Array Int} {len : Nat} {z : Int} (tgt : Nat) (hd : decode (pb_cd M) pc = .ok (.tableswitch dflt lo hi offs, len)) (hz : pb_rg z) (h1 : ¬ z < lo) (h2 : ¬ hi < z) (ho : offs[(z - lo).toNat]? = some off) (ht : (pc : Int) + off = (tgt : Int)) (kk : pb_Ex G M n C S Q k u tgt L st h) : pb_Ex G M n C S Q k u pc L (pb_i z :: st) h := by
  intro p e R s m args below meth c X H locs ls hR hO hL hl hn
  have X' := X
  obtain ⟨hx, hb, -, -, -, -, -, -, -, -, -, -, hT, -⟩ := X
  have e1 := pb_I_toInt hz
  exact lv_tableIn hx hb hd (by rw [e1]; exact h1) (by rw [e1]; exact h2) (by rw [e1]; exact ho) ht (kk p e R s m args below meth c X' H locs ls hR hO hL hl hn)
theorem pb_Ex.tswO {dflt lo hi : Int} {offs : Array Int} {len : Nat} {z : Int} (tgt : Nat) (hd : decode (pb_cd M) pc = .ok (.tableswitch dflt lo hi offs, len)) (hz : pb_rg z) (h1 : z < lo ∨ hi < z) (ht : (pc : Int) + dflt = (tgt : Int)) (kk : pb_Ex G M n C S Q k u tgt L st h) : pb_Ex G M n C S Q k u pc L (pb_i z :: st) h := by
  intro p e R s m args below meth c X H locs ls hR hO hL hl hn
  have X' := X
  obtain ⟨hx, hb, -, -, -, -, -, -, -, -, -, -, hT, -⟩ := X
  have e1 := pb_I_toInt hz
  exact lv_tableOut hx hb hd (by rw [e1]; exact h1) ht (kk p e R s m args below meth c X' H locs ls hR hO hL hl hn)
theorem pb_Ex.cat {nx tg b N : Nat} {g : Nat → Int} {z : Int} (j : Nat) (hi : pb_ig (pb_tb M) pc = some (.caload, nx, tg)) (ha : h.2 b = some (pb_aI 5 N g)) (hz : z = (j : Int)) (h1 : j < N) (kk : pb_Ex G M n C S Q k u nx L (pb_i (g j) :: st) h) : pb_Ex G M n C S Q k u pc L (pb_i z :: pb_r b :: st) h := by
  subst hz
  exact pb_Ex.cald hi ha (by omega) (by omega) (by rw [Int.toNat_natCast]; exact kk)
theorem pb_Ex.ms19 {nx tg : Nat} {z v : Int} {cm : Nat → Int} (j : Nat) (hi : pb_ig (pb_tb M) pc = some (.iastore, nx, tg)) (hW : mo_W h o A x (va_up F 19 cm)) (hf : mo_Fr o A h0 h) (hz : z = (j : Int)) (h1 : j < 244) (kk : ∀ h', mo_W h' o A x (va_up F 19 (va_up cm j v)) → mo_Fr o A h0 h' → pb_Ex G M n C S Q k u nx L st h') : pb_Ex G M n C S Q k u pc L (pb_i v :: pb_i z :: pb_r (A 19) :: st) h := by
  refine pb_Ex.mst 19 j hi hW hf (by decide) rfl hz h1 (fun h' a b => kk h' ?_ b)
  exact a.eqF (va_upup F 19 _ _)
end ROWS38
section MODEL14
variable {G : pb_G} {h : pb_H} {o : Nat} {A : Nat → Nat} {x : Nat → Int} {F : Nat → Nat → Int} {t : Nat} {g : Nat → Int} {N : Nat}
theorem pa_beg_le : ∀ j : Nat, j < 12 → pa_beg j ≤ 66 := by
  intro j hj
  have : ∀ j : Fin 12, pa_beg j.val ≤ 66 := by decide
  exact this ⟨j, hj⟩
theorem pa_let_rg : ∀ j : Nat, j < 66 → 0 ≤ pa_let j ∧ pa_let j ≤ 126 := by
  intro j hj
  have : ∀ j : Fin 66, 0 ≤ pa_let j.val ∧ pa_let j.val ≤ 126 := by decide
  exact this ⟨j, hj⟩
theorem mo_W.a17 (hW : mo_W h o A x F) : h.2 (A 17) = some (pb_aI 5 66 (F 17)) := hW.2.2.2.2.2.2.2.2.1
theorem mo_W.a18 (hW : mo_W h o A x F) : h.2 (A 18) = some (pb_aI 0 12 (F 18)) := hW.2.2.2.2.2.2.2.2.2.1
theorem mo_W.a19 (hW : mo_W h o A x F) : h.2 (A 19) = some (pb_aI 0 244 (F 19)) := hW.2.2.2.2.2.2.2.2.2.2.1
theorem mo_W.a10 (hW : mo_W h o A x F) : h.2 (A 10) = some (pb_aI 0 60 (F 10)) := hW.2.2.2.2.2.1
theorem mo_likeness (P : mo_P x F g N) (k : Nat) (hk : k ≤ 10) (s : Nat × Bool) (hs : s.1 ≤ N) (hW : mo_W h o A (pa_x x s) F) : pb_Ctr G mX4_likeness 1 0 0 [pb_r o, pb_i k] h (pb_P (some (pb_i (pa_lk g N s.1 k : Nat))) h) := by
  obtain ⟨p1, p2, p3, p4, p5, p6⟩ := P
  have hl := pa_len_pos k hk
  have b1 := pa_beg_le k (by omega)
  have b2 := pa_beg_le (k + 1) (by omega)
  have e2 : pa_len k = pa_beg (k + 1) - pa_beg k := rfl
  have q1 := p3 k (by omega)
  have q2 := p3 (k + 1) (by omega)
  refine pb_Ctr.of rfl rfl rfl tX4_likeness_ok rfl ?_
  (try refine pb_Ex.run rfl ?_)
  refine pb_Ex.getf (v := pb_r (A 18)) rfl rfl hW.1 rfl ?_
  (try refine pb_Ex.run rfl ?_)
  refine pb_Ex.iat ((k + 1)) rfl hW.a18 (by omega) (by omega) ?_
  (try refine pb_Ex.run rfl ?_)
  refine pb_Ex.getf (v := pb_r (A 18)) rfl rfl hW.1 rfl ?_
  (try refine pb_Ex.run rfl ?_)
  refine pb_Ex.iat (k) rfl hW.a18 (by omega) (by omega) ?_
  (try refine pb_Ex.run rfl ?_)
  rw [q1, q2]
  have loop : ∀ (m l : Nat) (z2 z3 : Int), l + m = pa_len k → z2 = l → z3 = (pa_beg (k + 1) : Nat) - (pa_beg k : Nat) → pb_Ex G mX4_likeness 1 0 0 (pb_P (some (pb_i (l + pa_lkF g N (pa_beg k + l) (s.1 + l) m : Nat))) h) 0 0 18 [some (pb_r o), some (pb_i k), some (pb_i z2), some (pb_i z3)] [] h := by
    intro m
    induction m with
    | zero =>
      intro l z2 z3 hl2 h2 h3
      subst h2 h3
      refine pb_Ex.run rfl ?_
      refine pb_Ex.icmpT rfl (by omega) (by omega) (by first | decide | (simp only [pb_cmp]; omega) | simp [pb_cmp]) ?_
      (try refine pb_Ex.run rfl ?_)
      refine pb_Ex.iret rfl rfl (by omega) (by omega) (⟨rfl, rfl⟩)
    | succ m ih =>
      intro l z2 z3 hl2 h2 h3
      subst h2
      refine pb_Ex.run rfl ?_
      refine pb_Ex.icmpF rfl (by omega) (by omega) (by first | decide | (simp only [pb_cmp]; omega) | simp [pb_cmp]) ?_
      (try refine pb_Ex.run rfl ?_)
      refine pb_Ex.getf (v := pb_i (s.1 : Nat)) rfl rfl hW.1 rfl ?_
      (try refine pb_Ex.run rfl ?_)
      refine pb_Ex.getf (v := pb_i (x 22)) rfl rfl hW.1 rfl ?_
      (try refine pb_Ex.run rfl ?_)
      rw [p4]
      unfold pa_lkF
      refine pb_Ex.icmp_ge rfl (by omega) (by omega) (fun c1 => ?_) (fun c1 => ?_)
      · rw [if_neg (by omega)]
        refine pb_Ex.run rfl ?_
        refine pb_Ex.iret rfl rfl (by omega) (by omega) (⟨rfl, rfl⟩)
      · refine pb_Ex.run rfl ?_
        refine pb_Ex.getf (v := pb_r (A 10)) rfl rfl hW.1 rfl ?_
        (try refine pb_Ex.run rfl ?_)
        refine pb_Ex.getf (v := pb_i (s.1 : Nat)) rfl rfl hW.1 rfl ?_
        (try refine pb_Ex.run rfl ?_)
        refine pb_Ex.iat ((s.1 + l)) rfl hW.a10 (by omega) (by omega) ?_
        (try refine pb_Ex.run rfl ?_)
        refine pb_Ex.getf (v := pb_r (A 17)) rfl rfl hW.1 rfl ?_
        (try refine pb_Ex.run rfl ?_)
        refine pb_Ex.getf (v := pb_r (A 18)) rfl rfl hW.1 rfl ?_
        (try refine pb_Ex.run rfl ?_)
        refine pb_Ex.iat (k) rfl hW.a18 (by omega) (by omega) ?_
        (try refine pb_Ex.run rfl ?_)
        rw [q1, p1]
        refine pb_Ex.cat (pa_beg k + l) rfl hW.a17 (by omega) (by omega) ?_
        rw [p2]
        have r1 := p6 (s.1 + l) (by omega)
        have r2 := pa_let_rg (pa_beg k + l) (by omega)
        refine pb_Ex.icmp_ne rfl (by omega) (by omega) (fun c2 => ?_) (fun c2 => ?_)
        · rw [if_neg (fun q => c2 q.2)]
          refine pb_Ex.run rfl ?_
          refine pb_Ex.iret rfl rfl (by omega) (by omega) (⟨rfl, rfl⟩)
        · rw [if_pos ⟨by omega, c2⟩]
          refine pb_Ex.run rfl ?_
          have e : l + (1 + pa_lkF g N (pa_beg k + l + 1) (s.1 + l + 1) m) = l + 1 + pa_lkF g N (pa_beg k + (l + 1)) (s.1 + (l + 1)) m := by
            rw [← Nat.add_assoc, ← Nat.add_assoc, ← Nat.add_assoc]
          rw [e]
          exact ih (l + 1) _ _ (by omega) (by omega) h3
  have := loop (pa_len k) 0 0 _ (by omega) rfl rfl
  rw [Nat.zero_add, Nat.add_zero, Nat.add_zero] at this
  exact this
theorem mo_readArguments0 (P : mo_P x F g N) (pos : Nat) (hpos : pos + 3 ≤ 244) (cm : Nat → Int) (s : Nat × Bool) (hs : s.1 ≤ N) (hW : mo_W h o A (pa_x x s) (va_up F 19 cm)) : pb_Ctr G mX4_readArguments 5 0 0 [pb_r o, pb_i (0 : Nat), pb_i pos] h (mo_Q o A h none (pa_x x (pa_args g N 0 pos (s, cm)).1) (va_up F 19 (pa_args g N 0 pos (s, cm)).2)) := by
  have hf : mo_Fr o A h h := mo_Fr.rf
  have h1p := pa_a1_p (g := g) (k := 0) hs
  refine pb_Ctr.of rfl rfl rfl tX4_readArguments_ok rfl ?_
  (try refine pb_Ex.run rfl ?_)
  refine pb_Ex.getf (v := pb_r (A 19)) rfl rfl hW.1 rfl ?_
  (try refine pb_Ex.run rfl ?_)
  refine pb_Ex.ifF rfl (by omega) (by first | decide | (simp only [pb_cmp]; omega) | simp [pb_cmp]) ?_
  (try refine pb_Ex.run rfl ?_)
  refine pb_Ex.ms19 pos rfl hW hf (by omega) (by omega) (fun h1 hW hf => ?_)
  refine pb_Ex.run rfl ?_
  refine pb_Ex.tswO 194 dX4_readArguments_44 (by omega) (by omega) (by decide) ?_
  have hW : mo_W h1 o A (pa_x x (pa_a1 g N 0 s).2) (va_up F 19 (va_up cm pos (pa_a1 g N 0 s).1)) := hW
  refine pb_Ex.vret rfl rfl (by omega) (by omega) (⟨rfl, hW, hf⟩)
theorem mo_readArguments1 (P : mo_P x F g N) (pos : Nat) (hpos : pos + 3 ≤ 244) (cm : Nat → Int) (s : Nat × Bool) (hs : s.1 ≤ N) (hW : mo_W h o A (pa_x x s) (va_up F 19 cm)) : pb_Ctr G mX4_readArguments 5 0 0 [pb_r o, pb_i (1 : Nat), pb_i pos] h (mo_Q o A h none (pa_x x (pa_args g N 1 pos (s, cm)).1) (va_up F 19 (pa_args g N 1 pos (s, cm)).2)) := by
  have hf : mo_Fr o A h h := mo_Fr.rf
  have h1p := pa_a1_p (g := g) (k := 1) hs
  refine pb_Ctr.of rfl rfl rfl tX4_readArguments_ok rfl ?_
  (try refine pb_Ex.run rfl ?_)
  refine pb_Ex.getf (v := pb_r (A 19)) rfl rfl hW.1 rfl ?_
  (try refine pb_Ex.run rfl ?_)
  refine pb_Ex.ifT rfl (by omega) (by first | decide | (simp only [pb_cmp]; omega) | simp [pb_cmp]) ?_
  (try refine pb_Ex.run rfl ?_)
  refine pb_Ex.icmpF rfl (by omega) (by omega) (by first | decide | (simp only [pb_cmp]; omega) | simp [pb_cmp]) ?_
  (try refine pb_Ex.run rfl ?_)
  refine pb_Ex.icmpF rfl (by omega) (by omega) (by first | decide | (simp only [pb_cmp]; omega) | simp [pb_cmp]) ?_
  (try refine pb_Ex.run rfl ?_)
  refine pb_Ex.icmpT rfl (by omega) (by omega) (by first | decide | (simp only [pb_cmp]; omega) | simp [pb_cmp]) ?_
  (try refine pb_Ex.run rfl ?_)
  refine pb_Ex.mc rfl rfl rfl rfl hW hf rfl rfl (mo_digit (show mo_P x (va_up F 19 cm) g N from P) s hs hW) (by omega) (by omega) (by omega) (fun h1 hW hf => ?_)
  (try refine pb_Ex.run rfl ?_)
  refine pb_Ex.ms19 pos rfl hW hf (by omega) (by omega) (fun h1 hW hf => ?_)
  refine pb_Ex.run rfl ?_
  refine pb_Ex.tswI 100 dX4_readArguments_44 (by omega) (by omega) (by omega) rfl (by decide) ?_
  refine pb_Ex.run rfl ?_
  have hW : mo_W h1 o A (pa_x x (pa_a1 g N 1 s).2) (va_up F 19 (va_up cm pos (pa_a1 g N 1 s).1)) := hW
  refine pb_Ex.getf (v := pb_r (A 19)) rfl rfl hW.1 rfl ?_
  (try refine pb_Ex.run rfl ?_)
  refine pb_Ex.mc rfl rfl rfl rfl hW hf rfl rfl (mo_numberBehind (show mo_P x (va_up F 19 _) g N from P) 32 (by omega) (pa_a1 g N 1 s).2 h1p.2 hW) (by omega) (by omega) (by omega) (fun h1 hW hf => ?_)
  (try refine pb_Ex.run rfl ?_)
  refine pb_Ex.ms19 (pos + 1) rfl hW hf (by omega) (by omega) (fun h1 hW hf => ?_)
  refine pb_Ex.run rfl ?_
  have h2p := pa_n2_p (g := g) (c := 32) (by omega) (pos := pos + 1) (s := ((pa_a1 g N 1 s).2, va_up cm pos (pa_a1 g N 1 s).1)) h1p.2
  have hW : mo_W h1 o A (pa_x x (pa_n2 g N 32 (pos + 1) ((pa_a1 g N 1 s).2, va_up cm pos (pa_a1 g N 1 s).1)).1) (va_up F 19 (pa_n2 g N 32 (pos + 1) ((pa_a1 g N 1 s).2, va_up cm pos (pa_a1 g N 1 s).1)).2) := hW
  refine pb_Ex.getf (v := pb_r (A 19)) rfl rfl hW.1 rfl ?_
  (try refine pb_Ex.run rfl ?_)
  refine pb_Ex.mc rfl rfl rfl rfl hW hf rfl rfl (mo_numberBehind (show mo_P x (va_up F 19 _) g N from P) 47 (by omega) (pa_n2 g N 32 (pos + 1) ((pa_a1 g N 1 s).2, va_up cm pos (pa_a1 g N 1 s).1)).1 h2p.2 hW) (by omega) (by omega) (by omega) (fun h1 hW hf => ?_)
  (try refine pb_Ex.run rfl ?_)
  refine pb_Ex.ms19 (pos + 2) rfl hW hf (by omega) (by omega) (fun h1 hW hf => ?_)
  refine pb_Ex.run rfl ?_
  refine pb_Ex.vret rfl rfl (by omega) (by omega) (⟨rfl, hW, hf⟩)
theorem mo_readArguments2 (P : mo_P x F g N) (pos : Nat) (hpos : pos + 3 ≤ 244) (cm : Nat → Int) (s : Nat × Bool) (hs : s.1 ≤ N) (hW : mo_W h o A (pa_x x s) (va_up F 19 cm)) : pb_Ctr G mX4_readArguments 5 0 0 [pb_r o, pb_i (2 : Nat), pb_i pos] h (mo_Q o A h none (pa_x x (pa_args g N 2 pos (s, cm)).1) (va_up F 19 (pa_args g N 2 pos (s, cm)).2)) := by
  have hf : mo_Fr o A h h := mo_Fr.rf
  have h1p := pa_a1_p (g := g) (k := 2) hs
  refine pb_Ctr.of rfl rfl rfl tX4_readArguments_ok rfl ?_
  (try refine pb_Ex.run rfl ?_)
  refine pb_Ex.getf (v := pb_r (A 19)) rfl rfl hW.1 rfl ?_
  (try refine pb_Ex.run rfl ?_)
  refine pb_Ex.ifT rfl (by omega) (by first | decide | (simp only [pb_cmp]; omega) | simp [pb_cmp]) ?_
  (try refine pb_Ex.run rfl ?_)
  refine pb_Ex.icmpF rfl (by omega) (by omega) (by first | decide | (simp only [pb_cmp]; omega) | simp [pb_cmp]) ?_
  (try refine pb_Ex.run rfl ?_)
  refine pb_Ex.icmpF rfl (by omega) (by omega) (by first | decide | (simp only [pb_cmp]; omega) | simp [pb_cmp]) ?_
  (try refine pb_Ex.run rfl ?_)
  refine pb_Ex.icmpT rfl (by omega) (by omega) (by first | decide | (simp only [pb_cmp]; omega) | simp [pb_cmp]) ?_
  (try refine pb_Ex.run rfl ?_)
  refine pb_Ex.mc rfl rfl rfl rfl hW hf rfl rfl (mo_digit (show mo_P x (va_up F 19 cm) g N from P) s hs hW) (by omega) (by omega) (by omega) (fun h1 hW hf => ?_)
  (try refine pb_Ex.run rfl ?_)
  refine pb_Ex.ms19 pos rfl hW hf (by omega) (by omega) (fun h1 hW hf => ?_)
  refine pb_Ex.run rfl ?_
  refine pb_Ex.tswI 194 dX4_readArguments_44 (by omega) (by omega) (by omega) rfl (by decide) ?_
  have hW : mo_W h1 o A (pa_x x (pa_a1 g N 2 s).2) (va_up F 19 (va_up cm pos (pa_a1 g N 2 s).1)) := hW
  refine pb_Ex.vret rfl rfl (by omega) (by omega) (⟨rfl, hW, hf⟩)
theorem mo_readArguments3 (P : mo_P x F g N) (pos : Nat) (hpos : pos + 3 ≤ 244) (cm : Nat → Int) (s : Nat × Bool) (hs : s.1 ≤ N) (hW : mo_W h o A (pa_x x s) (va_up F 19 cm)) : pb_Ctr G mX4_readArguments 5 0 0 [pb_r o, pb_i (3 : Nat), pb_i pos] h (mo_Q o A h none (pa_x x (pa_args g N 3 pos (s, cm)).1) (va_up F 19 (pa_args g N 3 pos (s, cm)).2)) := by
  have hf : mo_Fr o A h h := mo_Fr.rf
  have h1p := pa_a1_p (g := g) (k := 3) hs
  refine pb_Ctr.of rfl rfl rfl tX4_readArguments_ok rfl ?_
  (try refine pb_Ex.run rfl ?_)
  refine pb_Ex.getf (v := pb_r (A 19)) rfl rfl hW.1 rfl ?_
  (try refine pb_Ex.run rfl ?_)
  refine pb_Ex.ifT rfl (by omega) (by first | decide | (simp only [pb_cmp]; omega) | simp [pb_cmp]) ?_
  (try refine pb_Ex.run rfl ?_)
  refine pb_Ex.icmpF rfl (by omega) (by omega) (by first | decide | (simp only [pb_cmp]; omega) | simp [pb_cmp]) ?_
  (try refine pb_Ex.run rfl ?_)
  refine pb_Ex.icmpF rfl (by omega) (by omega) (by first | decide | (simp only [pb_cmp]; omega) | simp [pb_cmp]) ?_
  (try refine pb_Ex.run rfl ?_)
  refine pb_Ex.icmpT rfl (by omega) (by omega) (by first | decide | (simp only [pb_cmp]; omega) | simp [pb_cmp]) ?_
  (try refine pb_Ex.run rfl ?_)
  refine pb_Ex.mc rfl rfl rfl rfl hW hf rfl rfl (mo_digit (show mo_P x (va_up F 19 cm) g N from P) s hs hW) (by omega) (by omega) (by omega) (fun h1 hW hf => ?_)
  (try refine pb_Ex.run rfl ?_)
  refine pb_Ex.ms19 pos rfl hW hf (by omega) (by omega) (fun h1 hW hf => ?_)
  refine pb_Ex.run rfl ?_
  refine pb_Ex.tswI 131 dX4_readArguments_44 (by omega) (by omega) (by omega) rfl (by decide) ?_
  refine pb_Ex.run rfl ?_
  have hW : mo_W h1 o A (pa_x x (pa_a1 g N 3 s).2) (va_up F 19 (va_up cm pos (pa_a1 g N 3 s).1)) := hW
  refine pb_Ex.getf (v := pb_r (A 19)) rfl rfl hW.1 rfl ?_
  (try refine pb_Ex.run rfl ?_)
  refine pb_Ex.mc rfl rfl rfl rfl hW hf rfl rfl (mo_numberBehind (show mo_P x (va_up F 19 _) g N from P) 32 (by omega) (pa_a1 g N 3 s).2 h1p.2 hW) (by omega) (by omega) (by omega) (fun h1 hW hf => ?_)
  (try refine pb_Ex.run rfl ?_)
  refine pb_Ex.ms19 (pos + 1) rfl hW hf (by omega) (by omega) (fun h1 hW hf => ?_)
  refine pb_Ex.run rfl ?_
  refine pb_Ex.vret rfl rfl (by omega) (by omega) (⟨rfl, hW, hf⟩)
theorem mo_readArguments4 (P : mo_P x F g N) (pos : Nat) (hpos : pos + 3 ≤ 244) (cm : Nat → Int) (s : Nat × Bool) (hs : s.1 ≤ N) (hW : mo_W h o A (pa_x x s) (va_up F 19 cm)) : pb_Ctr G mX4_readArguments 5 0 0 [pb_r o, pb_i (4 : Nat), pb_i pos] h (mo_Q o A h none (pa_x x (pa_args g N 4 pos (s, cm)).1) (va_up F 19 (pa_args g N 4 pos (s, cm)).2)) := by
  have hf : mo_Fr o A h h := mo_Fr.rf
  have h1p := pa_a1_p (g := g) (k := 4) hs
  refine pb_Ctr.of rfl rfl rfl tX4_readArguments_ok rfl ?_
  (try refine pb_Ex.run rfl ?_)
  refine pb_Ex.getf (v := pb_r (A 19)) rfl rfl hW.1 rfl ?_
  (try refine pb_Ex.run rfl ?_)
  refine pb_Ex.ifT rfl (by omega) (by first | decide | (simp only [pb_cmp]; omega) | simp [pb_cmp]) ?_
  (try refine pb_Ex.run rfl ?_)
  refine pb_Ex.icmpF rfl (by omega) (by omega) (by first | decide | (simp only [pb_cmp]; omega) | simp [pb_cmp]) ?_
  (try refine pb_Ex.run rfl ?_)
  refine pb_Ex.icmpF rfl (by omega) (by omega) (by first | decide | (simp only [pb_cmp]; omega) | simp [pb_cmp]) ?_
  (try refine pb_Ex.run rfl ?_)
  refine pb_Ex.icmpT rfl (by omega) (by omega) (by first | decide | (simp only [pb_cmp]; omega) | simp [pb_cmp]) ?_
  (try refine pb_Ex.run rfl ?_)
  refine pb_Ex.mc rfl rfl rfl rfl hW hf rfl rfl (mo_digit (show mo_P x (va_up F 19 cm) g N from P) s hs hW) (by omega) (by omega) (by omega) (fun h1 hW hf => ?_)
  (try refine pb_Ex.run rfl ?_)
  refine pb_Ex.ms19 pos rfl hW hf (by omega) (by omega) (fun h1 hW hf => ?_)
  refine pb_Ex.run rfl ?_
  refine pb_Ex.tswI 194 dX4_readArguments_44 (by omega) (by omega) (by omega) rfl (by decide) ?_
  have hW : mo_W h1 o A (pa_x x (pa_a1 g N 4 s).2) (va_up F 19 (va_up cm pos (pa_a1 g N 4 s).1)) := hW
  refine pb_Ex.vret rfl rfl (by omega) (by omega) (⟨rfl, hW, hf⟩)
theorem mo_readArguments5 (P : mo_P x F g N) (pos : Nat) (hpos : pos + 3 ≤ 244) (cm : Nat → Int) (s : Nat × Bool) (hs : s.1 ≤ N) (hW : mo_W h o A (pa_x x s) (va_up F 19 cm)) : pb_Ctr G mX4_readArguments 5 0 0 [pb_r o, pb_i (5 : Nat), pb_i pos] h (mo_Q o A h none (pa_x x (pa_args g N 5 pos (s, cm)).1) (va_up F 19 (pa_args g N 5 pos (s, cm)).2)) := by
  have hf : mo_Fr o A h h := mo_Fr.rf
  have h1p := pa_a1_p (g := g) (k := 5) hs
  refine pb_Ctr.of rfl rfl rfl tX4_readArguments_ok rfl ?_
  (try refine pb_Ex.run rfl ?_)
  refine pb_Ex.getf (v := pb_r (A 19)) rfl rfl hW.1 rfl ?_
  (try refine pb_Ex.run rfl ?_)
  refine pb_Ex.ifT rfl (by omega) (by first | decide | (simp only [pb_cmp]; omega) | simp [pb_cmp]) ?_
  (try refine pb_Ex.run rfl ?_)
  refine pb_Ex.icmpF rfl (by omega) (by omega) (by first | decide | (simp only [pb_cmp]; omega) | simp [pb_cmp]) ?_
  (try refine pb_Ex.run rfl ?_)
  refine pb_Ex.icmpF rfl (by omega) (by omega) (by first | decide | (simp only [pb_cmp]; omega) | simp [pb_cmp]) ?_
  (try refine pb_Ex.run rfl ?_)
  refine pb_Ex.icmpT rfl (by omega) (by omega) (by first | decide | (simp only [pb_cmp]; omega) | simp [pb_cmp]) ?_
  (try refine pb_Ex.run rfl ?_)
  refine pb_Ex.mc rfl rfl rfl rfl hW hf rfl rfl (mo_digit (show mo_P x (va_up F 19 cm) g N from P) s hs hW) (by omega) (by omega) (by omega) (fun h1 hW hf => ?_)
  (try refine pb_Ex.run rfl ?_)
  refine pb_Ex.ms19 pos rfl hW hf (by omega) (by omega) (fun h1 hW hf => ?_)
  refine pb_Ex.run rfl ?_
  refine pb_Ex.tswI 148 dX4_readArguments_44 (by omega) (by omega) (by omega) rfl (by decide) ?_
  refine pb_Ex.run rfl ?_
  have hW : mo_W h1 o A (pa_x x (pa_a1 g N 5 s).2) (va_up F 19 (va_up cm pos (pa_a1 g N 5 s).1)) := hW
  refine pb_Ex.getf (v := pb_r (A 19)) rfl rfl hW.1 rfl ?_
  (try refine pb_Ex.run rfl ?_)
  refine pb_Ex.mc rfl rfl rfl rfl hW hf rfl rfl (mo_digitBehind (show mo_P x (va_up F 19 _) g N from P) (pa_a1 g N 5 s).2 h1p.2 hW) (by omega) (by omega) (by omega) (fun h1 hW hf => ?_)
  (try refine pb_Ex.run rfl ?_)
  refine pb_Ex.ms19 (pos + 1) rfl hW hf (by omega) (by omega) (fun h1 hW hf => ?_)
  refine pb_Ex.run rfl ?_
  refine pb_Ex.vret rfl rfl (by omega) (by omega) (⟨rfl, hW, hf⟩)
theorem mo_readArguments6 (P : mo_P x F g N) (pos : Nat) (hpos : pos + 3 ≤ 244) (cm : Nat → Int) (s : Nat × Bool) (hs : s.1 ≤ N) (hW : mo_W h o A (pa_x x s) (va_up F 19 cm)) : pb_Ctr G mX4_readArguments 5 0 0 [pb_r o, pb_i (6 : Nat), pb_i pos] h (mo_Q o A h none (pa_x x (pa_args g N 6 pos (s, cm)).1) (va_up F 19 (pa_args g N 6 pos (s, cm)).2)) := by
  have hf : mo_Fr o A h h := mo_Fr.rf
  have h1p := pa_a1_p (g := g) (k := 6) hs
  refine pb_Ctr.of rfl rfl rfl tX4_readArguments_ok rfl ?_
  (try refine pb_Ex.run rfl ?_)
  refine pb_Ex.getf (v := pb_r (A 19)) rfl rfl hW.1 rfl ?_
  (try refine pb_Ex.run rfl ?_)
  refine pb_Ex.ifT rfl (by omega) (by first | decide | (simp only [pb_cmp]; omega) | simp [pb_cmp]) ?_
  (try refine pb_Ex.run rfl ?_)
  refine pb_Ex.icmpF rfl (by omega) (by omega) (by first | decide | (simp only [pb_cmp]; omega) | simp [pb_cmp]) ?_
  (try refine pb_Ex.run rfl ?_)
  refine pb_Ex.icmpF rfl (by omega) (by omega) (by first | decide | (simp only [pb_cmp]; omega) | simp [pb_cmp]) ?_
  (try refine pb_Ex.run rfl ?_)
  refine pb_Ex.icmpT rfl (by omega) (by omega) (by first | decide | (simp only [pb_cmp]; omega) | simp [pb_cmp]) ?_
  (try refine pb_Ex.run rfl ?_)
  refine pb_Ex.mc rfl rfl rfl rfl hW hf rfl rfl (mo_digit (show mo_P x (va_up F 19 cm) g N from P) s hs hW) (by omega) (by omega) (by omega) (fun h1 hW hf => ?_)
  (try refine pb_Ex.run rfl ?_)
  refine pb_Ex.ms19 pos rfl hW hf (by omega) (by omega) (fun h1 hW hf => ?_)
  refine pb_Ex.run rfl ?_
  refine pb_Ex.tswI 131 dX4_readArguments_44 (by omega) (by omega) (by omega) rfl (by decide) ?_
  refine pb_Ex.run rfl ?_
  have hW : mo_W h1 o A (pa_x x (pa_a1 g N 6 s).2) (va_up F 19 (va_up cm pos (pa_a1 g N 6 s).1)) := hW
  refine pb_Ex.getf (v := pb_r (A 19)) rfl rfl hW.1 rfl ?_
  (try refine pb_Ex.run rfl ?_)
  refine pb_Ex.mc rfl rfl rfl rfl hW hf rfl rfl (mo_numberBehind (show mo_P x (va_up F 19 _) g N from P) 32 (by omega) (pa_a1 g N 6 s).2 h1p.2 hW) (by omega) (by omega) (by omega) (fun h1 hW hf => ?_)
  (try refine pb_Ex.run rfl ?_)
  refine pb_Ex.ms19 (pos + 1) rfl hW hf (by omega) (by omega) (fun h1 hW hf => ?_)
  refine pb_Ex.run rfl ?_
  refine pb_Ex.vret rfl rfl (by omega) (by omega) (⟨rfl, hW, hf⟩)
theorem mo_readArguments7 (P : mo_P x F g N) (pos : Nat) (hpos : pos + 3 ≤ 244) (cm : Nat → Int) (s : Nat × Bool) (hs : s.1 ≤ N) (hW : mo_W h o A (pa_x x s) (va_up F 19 cm)) : pb_Ctr G mX4_readArguments 5 0 0 [pb_r o, pb_i (7 : Nat), pb_i pos] h (mo_Q o A h none (pa_x x (pa_args g N 7 pos (s, cm)).1) (va_up F 19 (pa_args g N 7 pos (s, cm)).2)) := by
  have hf : mo_Fr o A h h := mo_Fr.rf
  have h1p := pa_a1_p (g := g) (k := 7) hs
  refine pb_Ctr.of rfl rfl rfl tX4_readArguments_ok rfl ?_
  (try refine pb_Ex.run rfl ?_)
  refine pb_Ex.getf (v := pb_r (A 19)) rfl rfl hW.1 rfl ?_
  (try refine pb_Ex.run rfl ?_)
  refine pb_Ex.ifT rfl (by omega) (by first | decide | (simp only [pb_cmp]; omega) | simp [pb_cmp]) ?_
  (try refine pb_Ex.run rfl ?_)
  refine pb_Ex.icmpT rfl (by omega) (by omega) (by first | decide | (simp only [pb_cmp]; omega) | simp [pb_cmp]) ?_
  (try refine pb_Ex.run rfl ?_)
  refine pb_Ex.mc rfl rfl rfl rfl hW hf rfl rfl (mo_number (show mo_P x (va_up F 19 cm) g N from P) s hs hW) (by omega) (by omega) (by omega) (fun h1 hW hf => ?_)
  (try refine pb_Ex.run rfl ?_)
  refine pb_Ex.ms19 pos rfl hW hf (by omega) (by omega) (fun h1 hW hf => ?_)
  refine pb_Ex.run rfl ?_
  refine pb_Ex.tswI 194 dX4_readArguments_44 (by omega) (by omega) (by omega) rfl (by decide) ?_
  have hW : mo_W h1 o A (pa_x x (pa_a1 g N 7 s).2) (va_up F 19 (va_up cm pos (pa_a1 g N 7 s).1)) := hW
  refine pb_Ex.vret rfl rfl (by omega) (by omega) (⟨rfl, hW, hf⟩)
theorem mo_readArguments8 (P : mo_P x F g N) (pos : Nat) (hpos : pos + 3 ≤ 244) (cm : Nat → Int) (s : Nat × Bool) (hs : s.1 ≤ N) (hW : mo_W h o A (pa_x x s) (va_up F 19 cm)) : pb_Ctr G mX4_readArguments 5 0 0 [pb_r o, pb_i (8 : Nat), pb_i pos] h (mo_Q o A h none (pa_x x (pa_args g N 8 pos (s, cm)).1) (va_up F 19 (pa_args g N 8 pos (s, cm)).2)) := by
  have hf : mo_Fr o A h h := mo_Fr.rf
  have h1p := pa_a1_p (g := g) (k := 8) hs
  refine pb_Ctr.of rfl rfl rfl tX4_readArguments_ok rfl ?_
  (try refine pb_Ex.run rfl ?_)
  refine pb_Ex.getf (v := pb_r (A 19)) rfl rfl hW.1 rfl ?_
  (try refine pb_Ex.run rfl ?_)
  refine pb_Ex.ifT rfl (by omega) (by first | decide | (simp only [pb_cmp]; omega) | simp [pb_cmp]) ?_
  (try refine pb_Ex.run rfl ?_)
  refine pb_Ex.icmpF rfl (by omega) (by omega) (by first | decide | (simp only [pb_cmp]; omega) | simp [pb_cmp]) ?_
  (try refine pb_Ex.run rfl ?_)
  refine pb_Ex.icmpT rfl (by omega) (by omega) (by first | decide | (simp only [pb_cmp]; omega) | simp [pb_cmp]) ?_
  (try refine pb_Ex.run rfl ?_)
  refine pb_Ex.mc rfl rfl rfl rfl hW hf rfl rfl (mo_number (show mo_P x (va_up F 19 cm) g N from P) s hs hW) (by omega) (by omega) (by omega) (fun h1 hW hf => ?_)
  (try refine pb_Ex.run rfl ?_)
  refine pb_Ex.ms19 pos rfl hW hf (by omega) (by omega) (fun h1 hW hf => ?_)
  refine pb_Ex.run rfl ?_
  refine pb_Ex.tswI 131 dX4_readArguments_44 (by omega) (by omega) (by omega) rfl (by decide) ?_
  refine pb_Ex.run rfl ?_
  have hW : mo_W h1 o A (pa_x x (pa_a1 g N 8 s).2) (va_up F 19 (va_up cm pos (pa_a1 g N 8 s).1)) := hW
  refine pb_Ex.getf (v := pb_r (A 19)) rfl rfl hW.1 rfl ?_
  (try refine pb_Ex.run rfl ?_)
  refine pb_Ex.mc rfl rfl rfl rfl hW hf rfl rfl (mo_numberBehind (show mo_P x (va_up F 19 _) g N from P) 32 (by omega) (pa_a1 g N 8 s).2 h1p.2 hW) (by omega) (by omega) (by omega) (fun h1 hW hf => ?_)
  (try refine pb_Ex.run rfl ?_)
  refine pb_Ex.ms19 (pos + 1) rfl hW hf (by omega) (by omega) (fun h1 hW hf => ?_)
  refine pb_Ex.run rfl ?_
  refine pb_Ex.vret rfl rfl (by omega) (by omega) (⟨rfl, hW, hf⟩)
theorem mo_readArguments9 (P : mo_P x F g N) (pos : Nat) (hpos : pos + 3 ≤ 244) (cm : Nat → Int) (s : Nat × Bool) (hs : s.1 ≤ N) (hW : mo_W h o A (pa_x x s) (va_up F 19 cm)) : pb_Ctr G mX4_readArguments 5 0 0 [pb_r o, pb_i (9 : Nat), pb_i pos] h (mo_Q o A h none (pa_x x (pa_args g N 9 pos (s, cm)).1) (va_up F 19 (pa_args g N 9 pos (s, cm)).2)) := by
  have hf : mo_Fr o A h h := mo_Fr.rf
  have h1p := pa_a1_p (g := g) (k := 9) hs
  refine pb_Ctr.of rfl rfl rfl tX4_readArguments_ok rfl ?_
  (try refine pb_Ex.run rfl ?_)
  refine pb_Ex.getf (v := pb_r (A 19)) rfl rfl hW.1 rfl ?_
  (try refine pb_Ex.run rfl ?_)
  refine pb_Ex.ifT rfl (by omega) (by first | decide | (simp only [pb_cmp]; omega) | simp [pb_cmp]) ?_
  (try refine pb_Ex.run rfl ?_)
  refine pb_Ex.icmpF rfl (by omega) (by omega) (by first | decide | (simp only [pb_cmp]; omega) | simp [pb_cmp]) ?_
  (try refine pb_Ex.run rfl ?_)
  refine pb_Ex.icmpF rfl (by omega) (by omega) (by first | decide | (simp only [pb_cmp]; omega) | simp [pb_cmp]) ?_
  (try refine pb_Ex.run rfl ?_)
  refine pb_Ex.icmpT rfl (by omega) (by omega) (by first | decide | (simp only [pb_cmp]; omega) | simp [pb_cmp]) ?_
  (try refine pb_Ex.run rfl ?_)
  refine pb_Ex.mc rfl rfl rfl rfl hW hf rfl rfl (mo_digit (show mo_P x (va_up F 19 cm) g N from P) s hs hW) (by omega) (by omega) (by omega) (fun h1 hW hf => ?_)
  (try refine pb_Ex.run rfl ?_)
  refine pb_Ex.ms19 pos rfl hW hf (by omega) (by omega) (fun h1 hW hf => ?_)
  refine pb_Ex.run rfl ?_
  refine pb_Ex.tswI 163 dX4_readArguments_44 (by omega) (by omega) (by omega) rfl (by decide) ?_
  refine pb_Ex.run rfl ?_
  have hW : mo_W h1 o A (pa_x x (pa_a1 g N 9 s).2) (va_up F 19 (va_up cm pos (pa_a1 g N 9 s).1)) := hW
  refine pb_Ex.getf (v := pb_r (A 19)) rfl rfl hW.1 rfl ?_
  (try refine pb_Ex.run rfl ?_)
  refine pb_Ex.mc rfl rfl rfl rfl hW hf rfl rfl (mo_numberBehind (show mo_P x (va_up F 19 _) g N from P) 32 (by omega) (pa_a1 g N 9 s).2 h1p.2 hW) (by omega) (by omega) (by omega) (fun h1 hW hf => ?_)
  (try refine pb_Ex.run rfl ?_)
  refine pb_Ex.ms19 (pos + 1) rfl hW hf (by omega) (by omega) (fun h1 hW hf => ?_)
  refine pb_Ex.run rfl ?_
  have h2p := pa_n2_p (g := g) (c := 32) (by omega) (pos := pos + 1) (s := ((pa_a1 g N 9 s).2, va_up cm pos (pa_a1 g N 9 s).1)) h1p.2
  have hW : mo_W h1 o A (pa_x x (pa_n2 g N 32 (pos + 1) ((pa_a1 g N 9 s).2, va_up cm pos (pa_a1 g N 9 s).1)).1) (va_up F 19 (pa_n2 g N 32 (pos + 1) ((pa_a1 g N 9 s).2, va_up cm pos (pa_a1 g N 9 s).1)).2) := hW
  refine pb_Ex.getf (v := pb_r (A 19)) rfl rfl hW.1 rfl ?_
  (try refine pb_Ex.run rfl ?_)
  refine pb_Ex.mc rfl rfl rfl rfl hW hf rfl rfl (mo_numberBehind (show mo_P x (va_up F 19 _) g N from P) 32 (by omega) (pa_n2 g N 32 (pos + 1) ((pa_a1 g N 9 s).2, va_up cm pos (pa_a1 g N 9 s).1)).1 h2p.2 hW) (by omega) (by omega) (by omega) (fun h1 hW hf => ?_)
  (try refine pb_Ex.run rfl ?_)
  refine pb_Ex.ms19 (pos + 2) rfl hW hf (by omega) (by omega) (fun h1 hW hf => ?_)
  refine pb_Ex.run rfl ?_
  refine pb_Ex.vret rfl rfl (by omega) (by omega) (⟨rfl, hW, hf⟩)
theorem mo_readArguments10 (P : mo_P x F g N) (pos : Nat) (hpos : pos + 3 ≤ 244) (cm : Nat → Int) (s : Nat × Bool) (hs : s.1 ≤ N) (hW : mo_W h o A (pa_x x s) (va_up F 19 cm)) : pb_Ctr G mX4_readArguments 5 0 0 [pb_r o, pb_i (10 : Nat), pb_i pos] h (mo_Q o A h none (pa_x x (pa_args g N 10 pos (s, cm)).1) (va_up F 19 (pa_args g N 10 pos (s, cm)).2)) := by
  have hf : mo_Fr o A h h := mo_Fr.rf
  have h1p := pa_a1_p (g := g) (k := 10) hs
  refine pb_Ctr.of rfl rfl rfl tX4_readArguments_ok rfl ?_
  (try refine pb_Ex.run rfl ?_)
  refine pb_Ex.getf (v := pb_r (A 19)) rfl rfl hW.1 rfl ?_
  (try refine pb_Ex.run rfl ?_)
  refine pb_Ex.ifT rfl (by omega) (by first | decide | (simp only [pb_cmp]; omega) | simp [pb_cmp]) ?_
  (try refine pb_Ex.run rfl ?_)
  refine pb_Ex.icmpF rfl (by omega) (by omega) (by first | decide | (simp only [pb_cmp]; omega) | simp [pb_cmp]) ?_
  (try refine pb_Ex.run rfl ?_)
  refine pb_Ex.icmpF rfl (by omega) (by omega) (by first | decide | (simp only [pb_cmp]; omega) | simp [pb_cmp]) ?_
  (try refine pb_Ex.run rfl ?_)
  refine pb_Ex.icmpF rfl (by omega) (by omega) (by first | decide | (simp only [pb_cmp]; omega) | simp [pb_cmp]) ?_
  (try refine pb_Ex.run rfl ?_)
  refine pb_Ex.mc rfl rfl rfl rfl hW hf rfl rfl (mo_number (show mo_P x (va_up F 19 cm) g N from P) s hs hW) (by omega) (by omega) (by omega) (fun h1 hW hf => ?_)
  (try refine pb_Ex.run rfl ?_)
  refine pb_Ex.ms19 pos rfl hW hf (by omega) (by omega) (fun h1 hW hf => ?_)
  refine pb_Ex.run rfl ?_
  refine pb_Ex.tswI 148 dX4_readArguments_44 (by omega) (by omega) (by omega) rfl (by decide) ?_
  refine pb_Ex.run rfl ?_
  have hW : mo_W h1 o A (pa_x x (pa_a1 g N 10 s).2) (va_up F 19 (va_up cm pos (pa_a1 g N 10 s).1)) := hW
  refine pb_Ex.getf (v := pb_r (A 19)) rfl rfl hW.1 rfl ?_
  (try refine pb_Ex.run rfl ?_)
  refine pb_Ex.mc rfl rfl rfl rfl hW hf rfl rfl (mo_digitBehind (show mo_P x (va_up F 19 _) g N from P) (pa_a1 g N 10 s).2 h1p.2 hW) (by omega) (by omega) (by omega) (fun h1 hW hf => ?_)
  (try refine pb_Ex.run rfl ?_)
  refine pb_Ex.ms19 (pos + 1) rfl hW hf (by omega) (by omega) (fun h1 hW hf => ?_)
  refine pb_Ex.run rfl ?_
  refine pb_Ex.vret rfl rfl (by omega) (by omega) (⟨rfl, hW, hf⟩)
theorem mo_readArguments (P : mo_P x F g N) (k : Nat) (hk : k ≤ 10) (pos : Nat) (hpos : pos + 3 ≤ 244) (cm : Nat → Int) (s : Nat × Bool) (hs : s.1 ≤ N) (hW : mo_W h o A (pa_x x s) (va_up F 19 cm)) : pb_Ctr G mX4_readArguments 5 0 0 [pb_r o, pb_i k, pb_i pos] h (mo_Q o A h none (pa_x x (pa_args g N k pos (s, cm)).1) (va_up F 19 (pa_args g N k pos (s, cm)).2)) := by
  have hc : k = 0 ∨ k = 1 ∨ k = 2 ∨ k = 3 ∨ k = 4 ∨ k = 5 ∨ k = 6 ∨ k = 7 ∨ k = 8 ∨ k = 9 ∨ k = 10 := by omega
  rcases hc with e | e | e | e | e | e | e | e | e | e | e <;> subst e
  · exact mo_readArguments0 P pos hpos cm s hs hW
  · exact mo_readArguments1 P pos hpos cm s hs hW
  · exact mo_readArguments2 P pos hpos cm s hs hW
  · exact mo_readArguments3 P pos hpos cm s hs hW
  · exact mo_readArguments4 P pos hpos cm s hs hW
  · exact mo_readArguments5 P pos hpos cm s hs hW
  · exact mo_readArguments6 P pos hpos cm s hs hW
  · exact mo_readArguments7 P pos hpos cm s hs hW
  · exact mo_readArguments8 P pos hpos cm s hs hW
  · exact mo_readArguments9 P pos hpos cm s hs hW
  · exact mo_readArguments10 P pos hpos cm s hs hW
end MODEL14
