set_option maxRecDepth 100000
/-- the numbers that count alike -/
def mo_xe (x y : Nat → Int) : Prop := x 3 = y 3 ∧ x 5 = y 5 ∧ x 6 = y 6 ∧ x 7 = y 7 ∧ x 8 = y 8 ∧ x 9 = y 9 ∧ x 11 = y 11 ∧ x 16 = y 16
def mo_Fe (F K : Nat → Nat → Int) : Prop := F 0 = K 0 ∧ F 2 = K 2 ∧ F 4 = K 4 ∧ F 10 = K 10 ∧ F 15 = K 15 ∧ F 17 = K 17 ∧ F 18 = K 18
theorem mo_xe.rf {x : Nat → Int} : mo_xe x x := ⟨rfl, rfl, rfl, rfl, rfl, rfl, rfl, rfl⟩
theorem mo_Fe.rf {F : Nat → Nat → Int} : mo_Fe F F := ⟨rfl, rfl, rfl, rfl, rfl, rfl, rfl⟩
/-- what a public method of the model answers, the model behind it, up to its scratch -/
def mo_QE (o : Nat) (A : Nat → Nat) (h : pb_H) (v : Option pb_V) (x : Nat → Int) (F : Nat → Nat → Int) : pb_O → pb_H → Prop := fun oc h' => ∃ x' F', mo_Q o A h v x' F' oc h' ∧ mo_xe x' x ∧ mo_Fe F' F ∧ pa_cok (F' 19)
theorem mo_pl_cp (p f g : Nat → Int) (c : Nat) : mo_pl p (mo_cp f g 213) c 213 = mo_pl p f c 213 := by
  funext j
  unfold mo_pl mo_cp
  by_cases h : 213 * c ≤ j ∧ j < 213 * c + 213
  · rw [if_pos h, if_pos h, if_pos (by omega)]
  · rw [if_neg h, if_neg h]
/-- execute: the answer, the numbers, the arrays -/
def ex_p (g : Nat → Int) (N : Nat) (c0 : Nat → Int) : pa_S × Nat := pa_ps g N (N + 1) 0 c0 0
def ex_q (g : Nat → Int) (N : Nat) (c0 f : Nat → Int) (r : Int) : Int × (Nat → Int) × Int := sp_run (ex_p g N c0).1.2 (ex_p g N c0).2 0 f r
def ex_v (g : Nat → Int) (N : Nat) (c0 f : Nat → Int) (r : Int) : Int := if (ex_p g N c0).1.1.2 then -1 else if (ex_q g N c0 f r).1 = -1 then ((ex_p g N c0).2 : Nat) else -1
def ex_x (g : Nat → Int) (N : Nat) (c0 f : Nat → Int) (x : Nat → Int) : Nat → Int :=
  if (ex_p g N c0).1.1.2 then va_up (va_up (va_up x 9 1) 6 ((ex_p g N c0).1.1.1 : Nat)) 11 0
  else if (ex_q g N c0 f (x 8)).1 = -1 then va_up (va_up (va_up (va_up x 9 0) 11 0) 8 (ex_q g N c0 f (x 8)).2.2) 5 (mo_pc (x 5) + 1)
  else va_up (va_up (va_up (va_up x 9 2) 11 0) 8 (ex_q g N c0 f (x 8)).2.2) 7 (ex_q g N c0 f (x 8)).1
def ex_F (g : Nat → Int) (N : Nat) (c0 f : Nat → Int) (x : Nat → Int) (F : Nat → Nat → Int) : Nat → Nat → Int :=
  if (ex_p g N c0).1.1.2 then F
  else if (ex_q g N c0 f (x 8)).1 = -1 then va_up (va_up F 4 (mo_pl (mo_ps (F 4) (x 5)) (F 0) (mo_pc (x 5)).toNat 213)) 0 (ex_q g N c0 f (x 8)).2.1
  else F
theorem mo_cx_0 {x : Nat → Int} (h : x 9 = 0) : mo_cx x = va_up x 5 (mo_pc (x 5) + 1) := if_neg (by omega)
theorem mo_cF_0 {x : Nat → Int} {F : Nat → Nat → Int} (h : x 9 = 0) : mo_cF x F = va_up F 4 (mo_pl (mo_ps (F 4) (x 5)) (F 1) (mo_pc (x 5)).toNat 213) := if_neg (by omega)
section MODEL17
variable {G : pb_G} {h : pb_H} {o : Nat} {A : Nat → Nat} {x : Nat → Int} {F : Nat → Nat → Int} {t : Nat} {g : Nat → Int} {N : Nat}
theorem mo_execute (hW : mo_W h o A x F) (ok : ya_ok t (F 0)) (ht : t + 1584 ≤ 200000) (c19 : pa_cok (F 19)) (P : F 10 = g ∧ F 17 = pa_let ∧ (∀ j, j < 12 → F 18 j = (pa_beg j : Nat)) ∧ x 11 = (N : Nat) ∧ N ≤ 60 ∧ ∀ j, j < 60 → 0 ≤ g j ∧ g j ≤ 126) (h5 : 0 ≤ x 5 ∧ x 5 ≤ 8) : pb_Ctr G mX4_execute 9 0 0 [pb_r o] h (mo_QE o A h (some (pb_i (ex_v g N (F 19) (F 0) (x 8)))) (ex_x g N (F 19) (F 0) x) (ex_F g N (F 19) (F 0) x F)) := by
  have hf : mo_Fr o A h h := mo_Fr.rf
  obtain ⟨p1, p2, p3, p4, p5, p6⟩ := P
  obtain ⟨xb, hxb⟩ : ∃ xb, xb = va_up (va_up (va_up x 9 0) 22 (N : Nat)) 11 0 := ⟨_, rfl⟩
  obtain ⟨Fb, hFb⟩ : ∃ Fb, Fb = va_up F 1 (mo_cp (F 0) (F 1) 213) := ⟨_, rfl⟩
  have P : mo_P xb Fb g N := by
    subst hxb hFb
    exact ⟨p1, p2, p3, rfl, p5, p6⟩
  obtain ⟨R0, hR0⟩ : ∃ R0, R0 = ex_p g N (F 19) := ⟨_, rfl⟩
  have hRv := pa_ps_v (g := g) (N := N) (N + 1) 0 (F 19) 0 c19 (fun i hi => by omega)
  have hRp := pa_ps_p (g := g) (N := N) (N + 1) 0 (F 19) 0 (by omega) (by omega)
  rw [show pa_ps g N (N + 1) 0 (F 19) 0 = R0 from hR0.symm] at hRv hRp
  -- the reading
  have reads : ∀ (m p : Nat) (cm : Nat → Int) (n : Nat) (h2 : pb_H) (z1 : Int) (l2 l3 : Option pb_V), N + 1 ≤ p + m → p ≤ N → 4 * n ≤ p → pa_cok cm → z1 = 1 → mo_W h2 o A (pa_x (va_up xb 20 (n : Nat)) (p, false)) (va_up Fb 19 cm) → mo_Fr o A h h2 →
      (∀ (h2 : pb_H), mo_W h2 o A (pa_x (va_up xb 20 ((pa_ps g N m p cm n).2 : Nat)) (pa_ps g N m p cm n).1.1) (va_up Fb 19 (pa_ps g N m p cm n).1.2) → mo_Fr o A h h2 → pb_Ex G mX4_execute 9 0 0 (mo_QE o A h (some (pb_i (ex_v g N (F 19) (F 0) (x 8)))) (ex_x g N (F 19) (F 0) x) (ex_F g N (F 19) (F 0) x F)) 0 0 93 [some (pb_r o), some (pb_i 0), l2, l3] [pb_r o] h2) →
      pb_Ex G mX4_execute 9 0 0 (mo_QE o A h (some (pb_i (ex_v g N (F 19) (F 0) (x 8)))) (ex_x g N (F 19) (F 0) x) (ex_F g N (F 19) (F 0) x F)) 0 0 34 [some (pb_r o), some (pb_i z1), l2, l3] [] h2 := by
    intro m
    induction m with
    | zero => intro p cm n h2 z1 l2 l3 hp hp2; omega
    | succ m ih =>
      intro p cm n h1 z1 l2 l3 hp hp2 hn hc h1z hW hf kk
      subst h1z
      have hrc := pa_rc_p (g := g) (N := N) (p := p) (cm := cm) (n := n) hp2
      have hrv := pa_rc_v (g := g) (N := N) (p := p) (cm := cm) (n := 0) hc (fun i hi => by omega)
      have hrn : 4 * (pa_rc g N p cm n).2 ≤ (pa_rc g N p cm n).1.1.1 := by
        by_cases c : (pa_rc g N p cm n).2 = n + 1
        · have := hrc.2.2.2.2.2 c
          omega
        · omega
      have hcv : pa_cok (pa_rc g N p cm n).1.2 := by
        have hb := pa_best_le (g := g) (N := N) (p := p) 10
        unfold pa_rc
        split
        · exact hc
        · exact pa_args_v (hc.up (by omega))
      refine pb_Ex.run rfl ?_
      refine pb_Ex.ifF rfl (by omega) (by first | decide | (simp only [pb_cmp]; omega) | simp [pb_cmp]) ?_
      (try refine pb_Ex.run rfl ?_)
      refine pb_Ex.mc rfl rfl rfl rfl hW hf rfl rfl (mo_readCommand P n (by omega) cm (p, false) hp2 hW) (by omega) (by omega) (by omega) (fun h1 hW hf => ?_)
      (try refine pb_Ex.run rfl ?_)
      rw [pa_ps] at kk
      obtain ⟨r, hr⟩ : ∃ r, r = pa_rc g N p cm n := ⟨_, rfl⟩
      have hW : mo_W h1 o A (pa_x (va_up xb 20 ((pa_rc g N p cm n).2 : Nat)) (pa_rc g N p cm n).1.1) (va_up Fb 19 (pa_rc g N p cm n).1.2) := hW
      rw [← hr] at hrc hrn hcv hW kk
      obtain ⟨⟨⟨p', w'⟩, cm'⟩, n'⟩ := r
      dsimp only at hrc hrn hcv hW kk
      have stop : ∀ (h2 : pb_H) (z : Int), z = 0 → mo_W h2 o A (pa_x (va_up xb 20 (n' : Nat)) (p', w')) (va_up Fb 19 cm') → mo_Fr o A h h2 → ¬ (w' = false ∧ p' < N) → pb_Ex G mX4_execute 9 0 0 (mo_QE o A h (some (pb_i (ex_v g N (F 19) (F 0) (x 8)))) (ex_x g N (F 19) (F 0) x) (ex_F g N (F 19) (F 0) x F)) 0 0 67 [some (pb_r o), some (pb_i z), l2, l3] [pb_i z] h2 := by
        intro h2 z hz hW hf hq
        subst hz
        refine pb_Ex.ifT rfl (by omega) (by first | decide | (simp only [pb_cmp]; omega) | simp [pb_cmp]) ?_
        (try refine pb_Ex.run rfl ?_)
        refine pb_Ex.ifT rfl (by omega) (by first | decide | (simp only [pb_cmp]; omega) | simp [pb_cmp]) ?_
        (try refine pb_Ex.run rfl ?_)
        rw [if_neg hq] at kk
        exact kk _ hW hf
      cases w' with
      | true =>
        refine pb_Ex.getf (v := pb_i 1) rfl rfl hW.1 rfl ?_
        (try refine pb_Ex.run rfl ?_)
        refine pb_Ex.ifT rfl (by omega) (by first | decide | (simp only [pb_cmp]; omega) | simp [pb_cmp]) ?_
        (try refine pb_Ex.run rfl ?_)
        exact stop _ _ rfl hW hf (fun q => by cases q.1)
      | false =>
        refine pb_Ex.getf (v := pb_i 0) rfl rfl hW.1 rfl ?_
        (try refine pb_Ex.run rfl ?_)
        refine pb_Ex.ifF rfl (by omega) (by first | decide | (simp only [pb_cmp]; omega) | simp [pb_cmp]) ?_
        (try refine pb_Ex.run rfl ?_)
        refine pb_Ex.getf (v := pb_i (p' : Nat)) rfl rfl hW.1 rfl ?_
        (try refine pb_Ex.run rfl ?_)
        refine pb_Ex.getf (v := pb_i (xb 22)) rfl rfl hW.1 rfl ?_
        (try refine pb_Ex.run rfl ?_)
        rw [show xb 22 = (N : Nat) from P.2.2.2.1]
        refine pb_Ex.icmp_ge rfl (by omega) (by omega) (fun c => ?_) (fun c => ?_)
        · refine pb_Ex.run rfl ?_
          exact stop _ _ rfl hW hf (fun q => by have := q.2; omega)
        · refine pb_Ex.run rfl ?_
          refine pb_Ex.ifF rfl (by omega) (by first | decide | (simp only [pb_cmp]; omega) | simp [pb_cmp]) ?_
          (try refine pb_Ex.run rfl ?_)
          refine pb_Ex.mc rfl rfl rfl rfl hW hf rfl rfl (mo_expects (show mo_P (va_up xb 20 (n' : Nat)) (va_up Fb 19 cm') g N from P) 59 (by omega) (p', false) hrc.2.1 hW) (by omega) (by omega) (by omega) (fun h1 hW hf => ?_)
          (try refine pb_Ex.run rfl ?_)
          have hexp := pa_ex_p (g := g) (N := N) (c := 59) (by omega) (s := (p', false)) hrc.2.1
          rw [if_pos (show (false = false ∧ p' < N) from ⟨rfl, by omega⟩)] at kk
          by_cases cx : pa_xw g N 59 (p', false) = true
          · have e9 : pa_ex g N 59 (p', false) = (p', true) := by unfold pa_ex; rw [if_pos cx]
            rw [if_pos cx] at kk
            have hW : mo_W h1 o A (pa_x (va_up xb 20 (n' : Nat)) (pa_ex g N 59 (p', false))) (va_up Fb 19 cm') := hW
            rw [e9] at hW
            refine pb_Ex.getf (v := pb_i 1) rfl rfl hW.1 rfl ?_
            (try refine pb_Ex.run rfl ?_)
            refine pb_Ex.ifT rfl (by omega) (by first | decide | (simp only [pb_cmp]; omega) | simp [pb_cmp]) ?_
            (try refine pb_Ex.run rfl ?_)
            refine pb_Ex.run rfl ?_
            refine pb_Ex.ifT rfl (by omega) (by first | decide | (simp only [pb_cmp]; omega) | simp [pb_cmp]) ?_
            (try refine pb_Ex.run rfl ?_)
            exact kk _ (by rw [e9]; exact hW) hf
          · have e9 : pa_ex g N 59 (p', false) = (p' + 1, false) := by unfold pa_ex; rw [if_neg cx]
            rw [if_neg cx] at kk
            have hW : mo_W h1 o A (pa_x (va_up xb 20 (n' : Nat)) (pa_ex g N 59 (p', false))) (va_up Fb 19 cm') := hW
            rw [e9] at hW hexp kk
            refine pb_Ex.getf (v := pb_i 0) rfl rfl hW.1 rfl ?_
            (try refine pb_Ex.run rfl ?_)
            refine pb_Ex.ifF rfl (by omega) (by first | decide | (simp only [pb_cmp]; omega) | simp [pb_cmp]) ?_
            (try refine pb_Ex.run rfl ?_)
            have hlt := hrc.2.2.2.2.1 rfl
            have hlt : p < p' := hlt
            exact ih (p' + 1) cm' n' _ _ _ _ (by omega) (by omega) (by omega) hcv rfl hW hf kk
  -- the commands done
  have hcm : R0.2 ≤ 15 := by omega
  have b9 : xb 9 = 0 := by subst hxb; rfl
  have b5 : xb 5 = x 5 := by subst hxb; rfl
  have b8 : xb 8 = x 8 := by subst hxb; rfl
  have does : ∀ (m i : Nat) (f : Nat → Int) (r : Int) (h2 : pb_H) (z2 : Int) (l3 : Option pb_V), R0.1.1.2 = false → i + m = R0.2 → z2 = i → ya_ok (t + 99 * i) f → (∀ j, 213 ≤ j → f j = F 0 j) → mo_W h2 o A (va_up (pa_x (va_up xb 20 (R0.2 : Nat)) R0.1.1) 8 r) (va_up (va_up Fb 19 R0.1.2) 0 f) → mo_Fr o A h h2 → sp_run R0.1.2 m i f r = ex_q g N (F 19) (F 0) (x 8) →
      pb_Ex G mX4_execute 9 0 0 (mo_QE o A h (some (pb_i (ex_v g N (F 19) (F 0) (x 8)))) (ex_x g N (F 19) (F 0) x) (ex_F g N (F 19) (F 0) x F)) 0 0 115 [some (pb_r o), some (pb_i 0), some (pb_i z2), l3] [] h2 := by
    intro m
    induction m with
    | zero =>
      intro i f r h1 z2 l3 hw hi h2z okf far hW hf hq
      subst h2z
      have e : i = R0.2 := by omega
      have hq : ((-1 : Int), f, r) = ex_q g N (F 19) (F 0) (x 8) := hq
      have ev : ex_v g N (F 19) (F 0) (x 8) = (R0.2 : Nat) := by
        unfold ex_v; rw [← hR0, ← hq, if_neg (by rw [hw]; decide), if_pos rfl]
      have ex9 : ex_x g N (F 19) (F 0) x = va_up (va_up (va_up (va_up x 9 0) 11 0) 8 r) 5 (mo_pc (x 5) + 1) := by
        unfold ex_x; rw [← hR0, ← hq, if_neg (by rw [hw]; decide), if_pos rfl]
      have eF9 : ex_F g N (F 19) (F 0) x F = va_up (va_up F 4 (mo_pl (mo_ps (F 4) (x 5)) (F 0) (mo_pc (x 5)).toNat 213)) 0 f := by
        unfold ex_F; rw [← hR0, ← hq, if_neg (by rw [hw]; decide), if_pos rfl]
      rw [ev, ex9, eF9]
      refine pb_Ex.run rfl ?_
      refine pb_Ex.getf (v := pb_i (R0.2 : Nat)) rfl rfl hW.1 rfl ?_
      (try refine pb_Ex.run rfl ?_)
      refine pb_Ex.icmpT rfl (by omega) (by omega) (by first | decide | (simp only [pb_cmp]; omega) | simp [pb_cmp]) ?_
      (try refine pb_Ex.run rfl ?_)
      refine pb_Ex.getf (v := pb_i (R0.2 : Nat)) rfl rfl hW.1 rfl ?_
      (try refine pb_Ex.run rfl ?_)
      refine pb_Ex.mc rfl rfl rfl rfl hW hf rfl rfl (mo_changed hW (by show 0 ≤ xb 9 ∧ xb 9 ≤ 3; omega) (by show 0 ≤ xb 5 ∧ xb 5 ≤ 8; omega) _ (by omega)) (by omega) (by omega) (by omega) (fun h1 hW hf => ?_)
      (try refine pb_Ex.run rfl ?_)
      refine pb_Ex.iret rfl rfl (by omega) (by omega) ⟨_, _, ⟨rfl, hW, hf⟩, ?_, ?_, ?_⟩
      · have e1 : mo_cx (va_up (pa_x (va_up xb 20 (R0.2 : Nat)) R0.1.1) 8 r) = va_up (va_up (pa_x (va_up xb 20 (R0.2 : Nat)) R0.1.1) 8 r) 5 (mo_pc (x 5) + 1) := by
          rw [mo_cx_0 (show va_up (pa_x (va_up xb 20 (R0.2 : Nat)) R0.1.1) 8 r 9 = 0 from b9)]
          show va_up _ 5 (mo_pc (xb 5) + 1) = _
          rw [b5]
        rw [e1]
        subst hxb
        exact ⟨rfl, rfl, rfl, rfl, rfl, rfl, rfl, rfl⟩
      · have e1 : mo_cF (va_up (pa_x (va_up xb 20 (R0.2 : Nat)) R0.1.1) 8 r) (va_up (va_up Fb 19 R0.1.2) 0 f) = va_up (va_up (va_up Fb 19 R0.1.2) 0 f) 4 (mo_pl (mo_ps (F 4) (x 5)) (F 0) (mo_pc (x 5)).toNat 213) := by
          rw [mo_cF_0 (show va_up (pa_x (va_up xb 20 (R0.2 : Nat)) R0.1.1) 8 r 9 = 0 from b9)]
          show va_up _ 4 (mo_pl (mo_ps (Fb 4) (xb 5)) (Fb 1) (mo_pc (xb 5)).toNat 213) = _
          rw [b5]
          subst hFb
          show va_up _ 4 (mo_pl (mo_ps (F 4) (x 5)) (mo_cp (F 0) (F 1) 213) (mo_pc (x 5)).toNat 213) = _
          rw [mo_pl_cp]
        rw [e1]
        subst hFb
        exact ⟨rfl, rfl, rfl, rfl, rfl, rfl, rfl⟩
      · rw [mo_cF_0 (show va_up (pa_x (va_up xb 20 (R0.2 : Nat)) R0.1.1) 8 r 9 = 0 from b9)]
        exact hRv.1
    | succ m ih =>
      intro i f r h1 z2 l3 hw hi h2z okf far hW hf hq
      subst h2z
      have hki := hRv.2 i (by omega)
      obtain ⟨kk, hkk⟩ := Int.eq_ofNat_of_zero_le hki.1
      rw [sp_run] at hq
      rw [show (R0.1.2 (4 * i)).toNat = kk by omega] at hq
      have okn := sp_op_ok okf (by omega) kk (R0.1.2 (4 * i + 1)) (R0.1.2 (4 * i + 2)) (R0.1.2 (4 * i + 3))
      have rgn := sp_op_rg okf (by omega) kk (R0.1.2 (4 * i + 1)) (R0.1.2 (4 * i + 2)) (R0.1.2 (4 * i + 3))
      have farn := fun j (hj : 213 ≤ j) => sp_op_far okf (by omega) hj kk (R0.1.2 (4 * i + 1)) (R0.1.2 (4 * i + 2)) (R0.1.2 (4 * i + 3))
      refine pb_Ex.run rfl ?_
      refine pb_Ex.getf (v := pb_i (R0.2 : Nat)) rfl rfl hW.1 rfl ?_
      (try refine pb_Ex.run rfl ?_)
      refine pb_Ex.icmpF rfl (by omega) (by omega) (by first | decide | (simp only [pb_cmp]; omega) | simp [pb_cmp]) ?_
      (try refine pb_Ex.run rfl ?_)
      have e4 : 4 * (i : Int) = ((4 * i : Nat) : Int) := by push_cast; rfl
      rw [e4]
      refine pb_Ex.mc rfl rfl rfl rfl hW hf rfl rfl (mo_does hW (show ya_ok (t + 99 * i) f from okf) (by omega) (4 * i) kk (by omega) (by omega) hkk hRv.1) (by omega) (by omega) (by omega) (fun h1 hW hf => ?_)
      (try refine pb_Ex.run rfl ?_)
      have hW : mo_W h1 o A (mo_S (if (sp_op f kk (R0.1.2 (4 * i + 1)) (R0.1.2 (4 * i + 2)) (R0.1.2 (4 * i + 3))).2.2 = 0 then (va_up (pa_x (va_up xb 20 (R0.2 : Nat)) R0.1.1) 8 r) else va_up (va_up (pa_x (va_up xb 20 (R0.2 : Nat)) R0.1.1) 8 r) 8 (sp_op f kk (R0.1.2 (4 * i + 1)) (R0.1.2 (4 * i + 2)) (R0.1.2 (4 * i + 3))).2.2) (sp_op f kk (R0.1.2 (4 * i + 1)) (R0.1.2 (4 * i + 2)) (R0.1.2 (4 * i + 3))).1) (va_up (va_up (va_up Fb 19 R0.1.2) 0 f) 0 (sp_op f kk (R0.1.2 (4 * i + 1)) (R0.1.2 (4 * i + 2)) (R0.1.2 (4 * i + 3))).2.1) := hW
      obtain ⟨q, hqd⟩ : ∃ q, q = sp_op f kk (R0.1.2 (4 * i + 1)) (R0.1.2 (4 * i + 2)) (R0.1.2 (4 * i + 3)) := ⟨_, rfl⟩
      rw [← hqd] at hq hW okn rgn farn
      rw [va_upup (va_up Fb 19 R0.1.2) 0 f] at hW
      have ex8 : (if q.2.2 = 0 then (va_up (pa_x (va_up xb 20 (R0.2 : Nat)) R0.1.1) 8 r) else va_up (va_up (pa_x (va_up xb 20 (R0.2 : Nat)) R0.1.1) 8 r) 8 q.2.2) = va_up (pa_x (va_up xb 20 (R0.2 : Nat)) R0.1.1) 8 (if q.2.2 = 0 then r else q.2.2) := by
        split
        · rfl
        · rw [va_upup]
      rw [ex8] at hW
      obtain ⟨r', hr'⟩ : ∃ r' : Int, r' = if q.2.2 = 0 then r else q.2.2 := ⟨_, rfl⟩
      rw [← hr'] at hW hq
      by_cases c0 : q.1 = 0
      · rw [if_pos c0] at hq
        rw [c0, show mo_S (va_up (pa_x (va_up xb 20 (R0.2 : Nat)) R0.1.1) 8 r') 0 = va_up (pa_x (va_up xb 20 (R0.2 : Nat)) R0.1.1) 8 r' from if_pos rfl] at hW
        refine pb_Ex.getf (v := pb_i (xb 9)) rfl rfl hW.1 rfl ?_
        (try refine pb_Ex.run rfl ?_)
        rw [b9]
        refine pb_Ex.ifT rfl (by omega) (by first | decide | (simp only [pb_cmp]; omega) | simp [pb_cmp]) ?_
        (try refine pb_Ex.run rfl ?_)
        exact ih (i + 1) q.2.1 r' _ ((i : Int) + 1) _ hw (by omega) (by push_cast; rfl) (by have e9 : t + 99 * (i + 1) = t + 99 * i + 99 := (by omega); rw [e9]; exact okn) (fun j hj => (farn j hj).trans (far j hj)) hW hf hq
      · rw [if_neg c0] at hq
        rw [show mo_S (va_up (pa_x (va_up xb 20 (R0.2 : Nat)) R0.1.1) 8 r') q.1 = va_up (va_up (pa_x (va_up xb 20 (R0.2 : Nat)) R0.1.1) 8 r') 9 q.1 from if_neg c0] at hW
        have ev : ex_v g N (F 19) (F 0) (x 8) = -1 := by
          unfold ex_v; rw [← hR0, ← hq, if_neg (by rw [hw]; decide), if_neg (by show ¬ (i : Int) = -1; omega)]
        have ex9 : ex_x g N (F 19) (F 0) x = va_up (va_up (va_up (va_up x 9 2) 11 0) 8 r') 7 i := by
          unfold ex_x; rw [← hR0, ← hq, if_neg (by rw [hw]; decide), if_neg (by show ¬ (i : Int) = -1; omega)]
        have eF9 : ex_F g N (F 19) (F 0) x F = F := by
          unfold ex_F; rw [← hR0, ← hq, if_neg (by rw [hw]; decide), if_neg (by show ¬ (i : Int) = -1; omega)]
        rw [ev, ex9, eF9]
        refine pb_Ex.getf (v := pb_i q.1) rfl rfl hW.1 rfl ?_
        (try refine pb_Ex.run rfl ?_)
        refine pb_Ex.ifF rfl (by omega) (by first | decide | (simp only [pb_cmp]; omega) | simp [pb_cmp]) ?_
        (try refine pb_Ex.run rfl ?_)
        have back : ∀ (m j : Nat) (h2 : pb_H) (z3 : Int), j + m = 213 → z3 = j → mo_W h2 o A (va_up (va_up (pa_x (va_up xb 20 (R0.2 : Nat)) R0.1.1) 8 r') 9 q.1) (va_up (va_up Fb 19 R0.1.2) 0 (mo_cp (F 0) q.2.1 j)) → mo_Fr o A h h2 → pb_Ex G mX4_execute 9 0 0 (mo_QE o A h (some (pb_i (-1))) (va_up (va_up (va_up (va_up x 9 2) 11 0) 8 r') 7 i) F) 0 0 139 [some (pb_r o), some (pb_i 0), some (pb_i i), some (pb_i z3)] [] h2 := by
          intro m
          induction m with
          | zero =>
            intro j h1 z3 hj h3 hW hf
            subst h3
            have e : j = 213 := by omega
            subst e
            have ecp : mo_cp (F 0) q.2.1 213 = F 0 := by
              funext j
              unfold mo_cp
              split
              · rfl
              · exact (farn j (by omega)).trans (far j (by omega))
            rw [ecp] at hW
            refine pb_Ex.run rfl ?_
            refine pb_Ex.icmpT rfl (by omega) (by omega) (by first | decide | (simp only [pb_cmp]; omega) | simp [pb_cmp]) ?_
            (try refine pb_Ex.run rfl ?_)
            refine pb_Ex.mput (x' := va_up (va_up (va_up (pa_x (va_up xb 20 (R0.2 : Nat)) R0.1.1) 8 r') 9 q.1) 7 i) rfl rfl hW hf rfl rfl (by first | trivial | exact Or.inl rfl | exact Or.inr rfl | (show _ ∨ _; omega)) (fun h1 hW hf => ?_)
            (try refine pb_Ex.run rfl ?_)
            refine pb_Ex.mc rfl rfl rfl rfl hW hf rfl rfl (mo_throwing hW 2) (by omega) (by omega) (by omega) (fun h1 hW hf => ?_)
            refine pb_Ex.iret rfl rfl (by omega) (by omega) ⟨_, _, ⟨rfl, hW, hf⟩, ?_, ?_, ?_⟩
            · subst hxb
              exact ⟨rfl, rfl, rfl, rfl, rfl, rfl, rfl, rfl⟩
            · subst hFb
              exact ⟨rfl, rfl, rfl, rfl, rfl, rfl, rfl⟩
            · exact hRv.1
          | succ m ih2 =>
            intro j h1 z3 hj h3 hW hf
            subst h3
            refine pb_Ex.run rfl ?_
            refine pb_Ex.icmpF rfl (by omega) (by omega) (by first | decide | (simp only [pb_cmp]; omega) | simp [pb_cmp]) ?_
            (try refine pb_Ex.run rfl ?_)
            refine pb_Ex.getf (v := pb_r (A 0)) rfl rfl hW.1 rfl ?_
            (try refine pb_Ex.run rfl ?_)
            refine pb_Ex.getf (v := pb_r (A 1)) rfl rfl hW.1 rfl ?_
            (try refine pb_Ex.run rfl ?_)
            refine pb_Ex.iat (j) rfl hW.2.2.1 (by omega) (by omega) ?_
            (try refine pb_Ex.run rfl ?_)
            have ea : va_up (va_up Fb 19 R0.1.2) 0 (mo_cp (F 0) q.2.1 j) 1 j = F 0 j := by
              subst hFb
              show mo_cp (F 0) (F 1) 213 j = F 0 j
              unfold mo_cp
              rw [if_pos (by omega)]
            rw [ea]
            refine pb_Ex.ms0 (j) rfl hW hf (by omega) (by omega) (fun h1 hW hf => ?_)
            (try refine pb_Ex.run rfl ?_)
            rw [mo_cp_s] at hW
            exact ih2 (j + 1) _ _ (by omega) (by omega) hW hf
        refine back 213 0 _ 0 (by omega) rfl (hW.eqF ?_) hf
        rw [mo_cp_0]
  refine pb_Ctr.of rfl rfl rfl tX4_execute_ok rfl ?_
  (try refine pb_Ex.run rfl ?_)
  refine pb_Ex.mc rfl rfl rfl rfl hW hf rfl rfl (mo_starts hW) (by omega) (by omega) (by omega) (fun h1 hW hf => ?_)
  (try refine pb_Ex.run rfl ?_)
  rw [← hFb] at hW
  refine pb_Ex.getf (v := pb_i (x 11)) rfl rfl hW.1 rfl ?_
  (try refine pb_Ex.run rfl ?_)
  rw [p4]
  refine pb_Ex.mput (x' := va_up (va_up x 9 0) 22 (N : Nat)) rfl rfl hW hf rfl rfl (by first | trivial | exact Or.inl rfl | exact Or.inr rfl | (show _ ∨ _; omega)) (fun h1 hW hf => ?_)
  (try refine pb_Ex.run rfl ?_)
  refine pb_Ex.mput (x' := va_up (va_up (va_up x 9 0) 22 (N : Nat)) 11 0) rfl rfl hW hf rfl rfl (by first | trivial | exact Or.inl rfl | exact Or.inr rfl | (show _ ∨ _; omega)) (fun h1 hW hf => ?_)
  (try refine pb_Ex.run rfl ?_)
  refine pb_Ex.mput (x' := va_up (va_up (va_up (va_up x 9 0) 22 (N : Nat)) 11 0) 21 0) rfl rfl hW hf rfl rfl (by first | trivial | exact Or.inl rfl | exact Or.inr rfl | (show _ ∨ _; omega)) (fun h1 hW hf => ?_)
  (try refine pb_Ex.run rfl ?_)
  refine pb_Ex.mput (x' := va_up (va_up (va_up (va_up (va_up x 9 0) 22 (N : Nat)) 11 0) 21 0) 20 0) rfl rfl hW hf rfl rfl (by first | trivial | exact Or.inl rfl | exact Or.inr rfl | (show _ ∨ _; omega)) (fun h1 hW hf => ?_)
  (try refine pb_Ex.run rfl ?_)
  refine pb_Ex.mput (x' := pa_x (va_up (va_up (va_up (va_up x 9 0) 22 (N : Nat)) 11 0) 20 ((0 : Nat) : Int)) (0, false)) rfl rfl hW hf rfl rfl (by first | trivial | exact Or.inl rfl | exact Or.inr rfl | (show _ ∨ _; omega)) (fun h1 hW hf => ?_)
  (try refine pb_Ex.run rfl ?_)
  rw [← hxb] at hW
  have hF19 : Fb 19 = F 19 := by subst hFb; rfl
  refine reads (N + 1) 0 (F 19) 0 _ _ _ _ (by omega) (by omega) (by omega) c19 rfl (hW.eqF (by rw [← hF19]; exact (va_upid Fb 19).symm)) hf (fun h1 hW hf => ?_)
  have hW : mo_W h1 o A (pa_x (va_up xb 20 ((ex_p g N (F 19)).2 : Nat)) (ex_p g N (F 19)).1.1) (va_up Fb 19 (ex_p g N (F 19)).1.2) := hW
  rw [← hR0] at hW
  obtain ⟨w, hw⟩ : ∃ w, w = R0.1.1.2 := ⟨_, rfl⟩
  have rdw : ∀ v : Int, v = pa_b R0.1.1.2 → pb_Ex G mX4_execute 9 0 0 (mo_QE o A h (some (pb_i (ex_v g N (F 19) (F 0) (x 8)))) (ex_x g N (F 19) (F 0) x) (ex_F g N (F 19) (F 0) x F)) 0 0 96 [some (pb_r o), some (pb_i 0), none, none] [pb_i v] h1 := by
    intro v hv
    subst hv
    cases w with
    | true =>
      rw [← hw]
      have ev : ex_v g N (F 19) (F 0) (x 8) = -1 := by
        unfold ex_v; rw [← hR0, if_pos hw.symm]
      have ex9 : ex_x g N (F 19) (F 0) x = va_up (va_up (va_up x 9 1) 6 (R0.1.1.1 : Nat)) 11 0 := by
        unfold ex_x; rw [← hR0, if_pos hw.symm]
      have eF9 : ex_F g N (F 19) (F 0) x F = F := by
        unfold ex_F; rw [← hR0, if_pos hw.symm]
      rw [ev, ex9, eF9]
      refine pb_Ex.ifF rfl (by decide) (by show ¬ ((1 : Int) = 0); decide) ?_
      refine pb_Ex.run rfl ?_
      refine pb_Ex.getf (v := pb_i (R0.1.1.1 : Nat)) rfl rfl hW.1 rfl ?_
      (try refine pb_Ex.run rfl ?_)
      refine pb_Ex.mput (x' := va_up (pa_x (va_up xb 20 (R0.2 : Nat)) R0.1.1) 6 (R0.1.1.1 : Nat)) rfl rfl hW hf rfl rfl (by first | trivial | exact Or.inl rfl | exact Or.inr rfl | (show _ ∨ _; omega)) (fun h1 hW hf => ?_)
      (try refine pb_Ex.run rfl ?_)
      refine pb_Ex.mc rfl rfl rfl rfl hW hf rfl rfl (mo_throwing hW 1) (by omega) (by omega) (by omega) (fun h1 hW hf => ?_)
      refine pb_Ex.iret rfl rfl (by omega) (by omega) ⟨_, _, ⟨rfl, hW, hf⟩, ?_, ?_, ?_⟩
      · subst hxb
        exact ⟨rfl, rfl, rfl, rfl, rfl, rfl, rfl, rfl⟩
      · subst hFb
        exact ⟨rfl, rfl, rfl, rfl, rfl, rfl, rfl⟩
      · exact hRv.1
    | false =>
      rw [← hw]
      refine pb_Ex.ifT rfl (by decide) (by show (0 : Int) = 0; rfl) ?_
      refine pb_Ex.run rfl ?_
      refine does R0.2 0 (F 0) (x 8) _ _ _ hw.symm (by omega) rfl ok (fun j _ => rfl) ?_ hf (by rw [hR0]; rfl)
      have e1 : va_up (pa_x (va_up xb 20 (R0.2 : Nat)) R0.1.1) 8 (x 8) = pa_x (va_up xb 20 (R0.2 : Nat)) R0.1.1 := by
        rw [← b8]
        exact va_upid (pa_x (va_up xb 20 (R0.2 : Nat)) R0.1.1) 8
      have e2 : va_up (va_up Fb 19 R0.1.2) 0 (F 0) = va_up Fb 19 R0.1.2 := by
        subst hFb
        exact va_upid (va_up (va_up F 1 (mo_cp (F 0) (F 1) 213)) 19 R0.1.2) 0
      rw [e1, e2]
      exact hW
  refine pb_Ex.getf (v := pb_i (pa_b R0.1.1.2)) rfl rfl hW.1 rfl ?_
  exact rdw _ rfl
end MODEL17
