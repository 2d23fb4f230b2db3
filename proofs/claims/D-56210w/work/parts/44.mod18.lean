set_option maxRecDepth 100000
/-! A HULL WRITTEN AS A LINE: the signs and how many -/
abbrev wr_P : Type := (Nat → Int) × Nat
def wr_sg (P : wr_P) (c : Int) : wr_P := (va_up P.1 P.2 c, P.2 + 1)
def wr_nu (P : wr_P) (v : Int) : wr_P := wr_sg (if 9 < v then wr_sg P (48 + v / 10) else P) (48 + v % 10)
def wr_st (s : Int) : Int := if s = 0 then 98 else if s = 1 then 97 else if s = 2 then 100 else 115
def wr_fr (f : Nat → Int) (k j : Nat) (P : wr_P) : wr_P :=
  if j < ya_se f k then wr_nu (wr_sg (wr_nu (wr_sg (wr_nu (wr_sg P 32) (f (25 + 28 * k + 2 * j + 0))) 124) (f (25 + 28 * k + 2 * j + 1))) 126) (f (41 + 28 * k + j))
  else wr_nu (wr_sg (wr_nu (wr_sg P 32) (f (25 + 28 * k + 2 * j + 0))) 124) (f (25 + 28 * k + 2 * j + 1))
def wr_frs (f : Nat → Int) (k : Nat) (P : wr_P) : Nat → wr_P
  | 0 => P
  | j + 1 => wr_fr f k j (wr_frs f k P j)
def wr_hull (f : Nat → Int) (k : Nat) (g : Nat → Int) : wr_P := wr_frs f k (wr_sg (wr_nu (g, 0) k) (wr_st (f (21 + 28 * k)))) (ya_n f k)
theorem wr_nu_n (P : wr_P) (v : Int) : (wr_nu P v).2 ≤ P.2 + 2 := by
  unfold wr_nu
  split
  · exact Nat.le_refl _
  · exact Nat.le_succ _
theorem wr_fr_n (f : Nat → Int) (k j : Nat) (P : wr_P) : (wr_fr f k j P).2 ≤ P.2 + 9 := by
  have h1 := wr_nu_n (wr_sg P 32) (f (25 + 28 * k + 2 * j + 0))
  have h2 := wr_nu_n (wr_sg (wr_nu (wr_sg P 32) (f (25 + 28 * k + 2 * j + 0))) 124) (f (25 + 28 * k + 2 * j + 1))
  have h3 := wr_nu_n (wr_sg (wr_nu (wr_sg (wr_nu (wr_sg P 32) (f (25 + 28 * k + 2 * j + 0))) 124) (f (25 + 28 * k + 2 * j + 1))) 126) (f (41 + 28 * k + j))
  have e : ∀ (P : wr_P) c, (wr_sg P c).2 = P.2 + 1 := fun _ _ => rfl
  rw [e] at h1 h2 h3
  unfold wr_fr
  split <;> omega
theorem wr_frs_n (f : Nat → Int) (k : Nat) (P : wr_P) : ∀ j : Nat, (wr_frs f k P j).2 ≤ P.2 + 9 * j
  | 0 => Nat.le_refl _
  | j + 1 => by
    have h1 := wr_frs_n f k P j
    have h2 := wr_fr_n f k j (wr_frs f k P j)
    show (wr_fr f k j (wr_frs f k P j)).2 ≤ _
    omega
section MODEL18
variable {G : pb_G} {h : pb_H} {o : Nat} {A : Nat → Nat} {x : Nat → Int} {F : Nat → Nat → Int} {t : Nat} {g : Nat → Int} {N : Nat}
/-- a number of an array is written -/
theorem pb_Ex.msG {M : pb_M} {n C S : Nat} {Q : pb_O → pb_H → Prop} {k u pc : Nat} {L : List (Option pb_V)} {st : List pb_V} {h0 : pb_H} {nx tg : Nat} {z v : Int} (i j : Nat) (hi : pb_ig (pb_tb M) pc = some (.iastore, nx, tg)) (hW : mo_W h o A x (va_up F i g)) (hf : mo_Fr o A h0 h) (hm : i ∈ mo_ix) (hk0 : (mo_sz i).1 = 0) (hz : z = (j : Int)) (h1 : j < (mo_sz i).2) (kk : ∀ h', mo_W h' o A x (va_up F i (va_up g j v)) → mo_Fr o A h0 h' → pb_Ex G M n C S Q k u nx L st h') : pb_Ex G M n C S Q k u pc L (pb_i v :: pb_i z :: pb_r (A i) :: st) h := by
  refine pb_Ex.mst i j hi hW hf hm hk0 hz h1 (fun h' a b => kk h' ?_ b)
  rw [va_upup, va_upS] at a
  exact a
def wr_x (x : Nat → Int) (P : wr_P) : Nat → Int := va_up x 16 (P.2 : Nat)
def wr_F (F : Nat → Nat → Int) (P : wr_P) : Nat → Nat → Int := va_up F 15 P.1
theorem mo_sign (P : wr_P) (hW : mo_W h o A (wr_x x P) (wr_F F P)) (hn : P.2 < 100) (c : Int) : pb_Ctr G mX4_sign 1 0 0 [pb_r o, pb_i c] h (mo_Q o A h none (wr_x x (wr_sg P c)) (wr_F F (wr_sg P c))) := by
  have hf : mo_Fr o A h h := mo_Fr.rf
  refine pb_Ctr.of rfl rfl rfl tX4_sign_ok rfl ?_
  (try refine pb_Ex.run rfl ?_)
  refine pb_Ex.getf (v := pb_r (A 15)) rfl rfl hW.1 rfl ?_
  (try refine pb_Ex.run rfl ?_)
  refine pb_Ex.getf (v := pb_i (P.2 : Nat)) rfl rfl hW.1 rfl ?_
  (try refine pb_Ex.run rfl ?_)
  refine pb_Ex.msG 15 P.2 rfl hW hf (by decide) rfl rfl hn (fun h1 hW hf => ?_)
  refine pb_Ex.run rfl ?_
  refine pb_Ex.getf (v := pb_i (P.2 : Nat)) rfl rfl hW.1 rfl ?_
  (try refine pb_Ex.run rfl ?_)
  refine pb_Ex.mput (x' := wr_x x (wr_sg P c)) rfl rfl hW hf rfl rfl (by first | trivial | exact Or.inl rfl | exact Or.inr rfl | (show _ ∨ _; omega)) (fun h1 hW hf => ?_)
  (try refine pb_Ex.run rfl ?_)
  refine pb_Ex.vret rfl rfl (by omega) (by omega) (⟨rfl, hW, hf⟩)
theorem mo_writesNumber (P : wr_P) (hW : mo_W h o A (wr_x x P) (wr_F F P)) (hn : P.2 < 98) (v : Int) (hv : 0 ≤ v ∧ v ≤ 99) : pb_Ctr G mX4_writesNumber 2 0 0 [pb_r o, pb_i v] h (mo_Q o A h none (wr_x x (wr_nu P v)) (wr_F F (wr_nu P v))) := by
  have hf : mo_Fr o A h h := mo_Fr.rf
  unfold wr_nu
  refine pb_Ctr.of rfl rfl rfl tX4_writesNumber_ok rfl ?_
  (try refine pb_Ex.run rfl ?_)
  refine pb_Ex.icmp_le rfl (by omega) (by omega) (fun c => ?_) (fun c => ?_)
  · rw [if_neg (by omega)]
    refine pb_Ex.run rfl ?_
    refine pb_Ex.irem rfl (by omega) (by omega) ?_
    refine pb_Ex.run rfl ?_
    refine pb_Ex.mc rfl rfl rfl rfl hW hf rfl rfl (mo_sign P hW (by omega) _) (by omega) (by omega) (by omega) (fun h1 hW hf => ?_)
    (try refine pb_Ex.run rfl ?_)
    refine pb_Ex.vret rfl rfl (by omega) (by omega) (⟨rfl, hW, hf⟩)
  · rw [if_pos (by omega)]
    refine pb_Ex.run rfl ?_
    refine pb_Ex.idiv rfl (by omega) (by omega) ?_
    refine pb_Ex.run rfl ?_
    refine pb_Ex.mc rfl rfl rfl rfl hW hf rfl rfl (mo_sign P hW (by omega) _) (by omega) (by omega) (by omega) (fun h1 hW hf => ?_)
    (try refine pb_Ex.run rfl ?_)
    refine pb_Ex.irem rfl (by omega) (by omega) ?_
    refine pb_Ex.run rfl ?_
    refine pb_Ex.mc rfl rfl rfl rfl hW hf rfl rfl (mo_sign (wr_sg P (48 + v / 10)) hW (by show P.2 + 1 < 100; omega) _) (by omega) (by omega) (by omega) (fun h1 hW hf => ?_)
    (try refine pb_Ex.run rfl ?_)
    refine pb_Ex.vret rfl rfl (by omega) (by omega) (⟨rfl, hW, hf⟩)
theorem mo_writeHull (hW : mo_W h o A x F) (ok : ya_ok t (F 0)) (z : Int) (hz : pb_rg z) : pb_Ctr G mX4_writeHull 5 0 0 [pb_r o, pb_i z] h (mo_Q o A h (some (pb_i (if 0 ≤ z ∧ z < F 0 0 then ((wr_hull (F 0) z.toNat (F 15)).2 : Nat) else -1))) (if 0 ≤ z ∧ z < F 0 0 then wr_x (va_up x 9 0) (wr_hull (F 0) z.toNat (F 15)) else va_up x 9 1) (if 0 ≤ z ∧ z < F 0 0 then wr_F F (wr_hull (F 0) z.toNat (F 15)) else F)) := by
  have := ok.num
  have hf : mo_Fr o A h h := mo_Fr.rf
  refine pb_Ctr.of rfl rfl rfl tX4_writeHull_ok rfl ?_
  (try refine pb_Ex.run rfl ?_)
  refine pb_Ex.mput (x' := va_up x 9 0) rfl rfl hW hf rfl rfl trivial (fun h1 hW hf => ?_)
  (try refine pb_Ex.run rfl ?_)
  refine pb_Ex.pV rfl rfl rfl rfl hW.1 rfl rfl (mo_isHull hW ok z hz) (by omega) (by omega) (by omega) ?_
  (try refine pb_Ex.run rfl ?_)
  unfold mo_in
  by_cases c : 0 ≤ z ∧ z ≤ F 0 0 - 1
  · rw [if_pos c, if_pos (show 0 ≤ z ∧ z < F 0 0 by omega), if_pos (show 0 ≤ z ∧ z < F 0 0 by omega), if_pos (show 0 ≤ z ∧ z < F 0 0 by omega)]
    obtain ⟨k, rfl⟩ := Int.eq_ofNat_of_zero_le c.1
    rw [Int.toNat_natCast]
    have hk : k < 6 := by omega
    have hfr := ok.fr hk
    have hn := hfr.nn
    have hse := hfr.se
    have hh := ok.hull hk
    refine pb_Ex.ifT rfl (by omega) (by first | decide | (simp only [pb_cmp]; omega) | simp [pb_cmp]) ?_
    (try refine pb_Ex.run rfl ?_)
    refine pb_Ex.pV rfl rfl rfl rfl hW.1 rfl rfl (mo_state hW k hk) (by omega) (by omega) (by omega) ?_
    (try refine pb_Ex.run rfl ?_)
    refine pb_Ex.mput (x' := wr_x (va_up x 9 0) (F 15, 0)) rfl rfl hW hf rfl rfl (by first | trivial | exact Or.inl rfl | exact Or.inr rfl | (show _ ∨ _; omega)) (fun h1 hW hf => ?_)
    (try refine pb_Ex.run rfl ?_)
    have hW : mo_W h1 o A (wr_x (va_up x 9 0) (F 15, 0)) (wr_F F (F 15, 0)) := hW.eqF (va_upid F 15).symm
    refine pb_Ex.mc rfl rfl rfl rfl hW hf rfl rfl (mo_writesNumber (F 15, 0) hW (by show 0 < 98; omega) k (by omega)) (by omega) (by omega) (by omega) (fun h1 hW hf => ?_)
    (try refine pb_Ex.run rfl ?_)
    have n1 := wr_nu_n (F 15, 0) (k : Int)
    have n1 : (wr_nu (F 15, 0) (k : Int)).2 ≤ 0 + 2 := n1
    unfold wr_hull
    have fin : ∀ (h2 : pb_H) (l3 : Option pb_V), mo_W h2 o A (wr_x (va_up x 9 0) (wr_nu (F 15, 0) k)) (wr_F F (wr_nu (F 15, 0) k)) → mo_Fr o A h h2 →
        pb_Ex G mX4_writeHull 5 0 0 (mo_Q o A h (some (pb_i ((wr_frs (F 0) k (wr_sg (wr_nu (F 15, 0) k) (wr_st (F 0 (21 + 28 * k)))) (ya_n (F 0) k)).2 : Nat))) (wr_x (va_up x 9 0) (wr_frs (F 0) k (wr_sg (wr_nu (F 15, 0) k) (wr_st (F 0 (21 + 28 * k)))) (ya_n (F 0) k))) (wr_F F (wr_frs (F 0) k (wr_sg (wr_nu (F 15, 0) k) (wr_st (F 0 (21 + 28 * k)))) (ya_n (F 0) k)))) 0 0 67 [some (pb_r o), some (pb_i k), some (pb_i (F 0 (21 + 28 * k))), l3] [pb_i (wr_st (F 0 (21 + 28 * k))), pb_r o] h2 := by
      intro h1 l3 hW hf
      refine pb_Ex.mc rfl rfl rfl rfl hW hf rfl rfl (mo_sign (wr_nu (F 15, 0) k) hW (by omega) _) (by omega) (by omega) (by omega) (fun h1 hW hf => ?_)
      (try refine pb_Ex.run rfl ?_)
      obtain ⟨P0, hP0⟩ : ∃ P0, P0 = wr_sg (wr_nu (F 15, 0) k) (wr_st (F 0 (21 + 28 * k))) := ⟨_, rfl⟩
      have n2 : P0.2 ≤ 3 := by rw [hP0]; show (wr_nu (F 15, 0) (k : Int)).2 + 1 ≤ 3; omega
      rw [← hP0] at hW ⊢
      have loop : ∀ (m j : Nat) (h2 : pb_H) (z3 : Int), j + m = ya_n (F 0) k → z3 = j → mo_W h2 o A (wr_x (va_up x 9 0) (wr_frs (F 0) k P0 j)) (wr_F F (wr_frs (F 0) k P0 j)) → mo_Fr o A h h2 →
          pb_Ex G mX4_writeHull 5 0 0 (mo_Q o A h (some (pb_i ((wr_frs (F 0) k P0 (ya_n (F 0) k)).2 : Nat))) (wr_x (va_up x 9 0) (wr_frs (F 0) k P0 (ya_n (F 0) k))) (wr_F F (wr_frs (F 0) k P0 (ya_n (F 0) k)))) 0 0 72 [some (pb_r o), some (pb_i k), some (pb_i (F 0 (21 + 28 * k))), some (pb_i z3)] [] h2 := by
        intro m
        induction m with
        | zero =>
          intro j h1 z3 hj h3 hW hf
          subst h3
          have e : j = ya_n (F 0) k := by omega
          subst e
          refine pb_Ex.run rfl ?_
          refine pb_Ex.pV rfl rfl rfl rfl hW.1 rfl rfl ((show pb_Ctr G mX4_frames 2 0 0 [pb_r o, pb_i k] h1 (pb_P (some (pb_i (F 0 (22 + 28 * k)))) h1) from mo_frames hW k hk)) (by omega) (by omega) (by omega) ?_
          (try refine pb_Ex.run rfl ?_)
          refine pb_Ex.icmpT rfl (by omega) (by omega) (by first | decide | (simp only [pb_cmp]; omega) | simp [pb_cmp]) ?_
          (try refine pb_Ex.run rfl ?_)
          refine pb_Ex.getf (v := pb_i ((wr_frs (F 0) k P0 (ya_n (F 0) k)).2 : Nat)) rfl rfl hW.1 rfl ?_
          (try refine pb_Ex.run rfl ?_)
          refine pb_Ex.iret rfl rfl (by omega) (by omega) (⟨rfl, hW, hf⟩)
        | succ m ih =>
          intro j h1 z3 hj h3 hW hf
          subst h3
          have nb := wr_frs_n (F 0) k P0 j
          have nf := wr_fr_n (F 0) k j (wr_frs (F 0) k P0 j)
          have w0 := ok.wid hk (j := 2 * j + 0) (by omega)
          have w1 := ok.wid hk (j := 2 * j + 1) (by omega)
          rw [← Nat.add_assoc] at w0 w1
          obtain ⟨P, hP⟩ : ∃ P, P = wr_frs (F 0) k P0 j := ⟨_, rfl⟩
          have ej : wr_frs (F 0) k P0 (j + 1) = wr_fr (F 0) k j P := by rw [hP]; rfl
          rw [← hP] at hW nb
          have q1 := wr_nu_n (wr_sg P 32) (F 0 (25 + 28 * k + 2 * j + 0))
          have q1 : (wr_nu (wr_sg P 32) (F 0 (25 + 28 * k + 2 * j + 0))).2 ≤ P.2 + 1 + 2 := q1
          have q2 := wr_nu_n (wr_sg (wr_nu (wr_sg P 32) (F 0 (25 + 28 * k + 2 * j + 0))) 124) (F 0 (25 + 28 * k + 2 * j + 1))
          have q2 : (wr_nu (wr_sg (wr_nu (wr_sg P 32) (F 0 (25 + 28 * k + 2 * j + 0))) 124) (F 0 (25 + 28 * k + 2 * j + 1))).2 ≤ (wr_nu (wr_sg P 32) (F 0 (25 + 28 * k + 2 * j + 0))).2 + 1 + 2 := q2
          refine pb_Ex.run rfl ?_
          refine pb_Ex.pV rfl rfl rfl rfl hW.1 rfl rfl ((show pb_Ctr G mX4_frames 2 0 0 [pb_r o, pb_i k] h1 (pb_P (some (pb_i (F 0 (22 + 28 * k)))) h1) from mo_frames hW k hk)) (by omega) (by omega) (by omega) ?_
          (try refine pb_Ex.run rfl ?_)
          refine pb_Ex.icmpF rfl (by omega) (by omega) (by first | decide | (simp only [pb_cmp]; omega) | simp [pb_cmp]) ?_
          (try refine pb_Ex.run rfl ?_)
          refine pb_Ex.mc rfl rfl rfl rfl hW hf rfl rfl (mo_sign P hW (by omega) 32) (by omega) (by omega) (by omega) (fun h1 hW hf => ?_)
          (try refine pb_Ex.run rfl ?_)
          refine pb_Ex.pV rfl rfl rfl rfl hW.1 rfl rfl ((show pb_Ctr G mX4_width 2 0 0 [pb_r o, pb_i k, pb_i j, pb_i (0 : Nat)] h1 (pb_P (some (pb_i (F 0 (25 + 28 * k + 2 * j + 0)))) h1) from mo_width hW k j 0 hk (by omega) (by omega))) (by omega) (by omega) (by omega) ?_
          (try refine pb_Ex.run rfl ?_)
          refine pb_Ex.mc rfl rfl rfl rfl hW hf rfl rfl (mo_writesNumber (wr_sg P 32) hW (by show P.2 + 1 < 98; omega) _ (by omega)) (by omega) (by omega) (by omega) (fun h1 hW hf => ?_)
          (try refine pb_Ex.run rfl ?_)
          refine pb_Ex.mc rfl rfl rfl rfl hW hf rfl rfl (mo_sign (wr_nu (wr_sg P 32) (F 0 (25 + 28 * k + 2 * j + 0))) hW (by omega) 124) (by omega) (by omega) (by omega) (fun h1 hW hf => ?_)
          (try refine pb_Ex.run rfl ?_)
          refine pb_Ex.pV rfl rfl rfl rfl hW.1 rfl rfl ((show pb_Ctr G mX4_width 2 0 0 [pb_r o, pb_i k, pb_i j, pb_i (1 : Nat)] h1 (pb_P (some (pb_i (F 0 (25 + 28 * k + 2 * j + 1)))) h1) from mo_width hW k j 1 hk (by omega) (by omega))) (by omega) (by omega) (by omega) ?_
          (try refine pb_Ex.run rfl ?_)
          refine pb_Ex.mc rfl rfl rfl rfl hW hf rfl rfl (mo_writesNumber (wr_sg (wr_nu (wr_sg P 32) (F 0 (25 + 28 * k + 2 * j + 0))) 124) hW (by show (wr_nu (wr_sg P 32) (F 0 (25 + 28 * k + 2 * j + 0))).2 + 1 < 98; omega) _ (by omega)) (by omega) (by omega) (by omega) (fun h1 hW hf => ?_)
          (try refine pb_Ex.run rfl ?_)
          refine pb_Ex.pV rfl rfl rfl rfl hW.1 rfl rfl ((show pb_Ctr G mX4_seams 3 0 0 [pb_r o, pb_i k] h1 (pb_P (some (pb_i (ya_se (F 0) k : Nat))) h1) from mo_seams hW k hk hfr)) (by omega) (by omega) (by omega) ?_
          (try refine pb_Ex.run rfl ?_)
          refine pb_Ex.icmp_ge rfl (by omega) (by omega) (fun c5 => ?_) (fun c5 => ?_)
          · refine pb_Ex.run rfl ?_
            refine ih (j + 1) _ _ (by omega) (by push_cast; rfl) ?_ hf
            rw [ej]
            unfold wr_fr
            rw [if_neg (by omega)]
            exact hW
          · have wc := ok.cau hk (j := j) (by omega)
            refine pb_Ex.run rfl ?_
            refine pb_Ex.mc rfl rfl rfl rfl hW hf rfl rfl (mo_sign _ hW (by omega) 126) (by omega) (by omega) (by omega) (fun h1 hW hf => ?_)
            (try refine pb_Ex.run rfl ?_)
            refine pb_Ex.getf (v := pb_r (A 0)) rfl rfl hW.1 rfl ?_
            (try refine pb_Ex.run rfl ?_)
            refine pb_Ex.pS rfl rfl rfl rfl (mo_hullAt (k : Int)) (by omega) (by omega) (by omega) ?_
            (try refine pb_Ex.run rfl ?_)
            refine pb_Ex.iat (41 + 28 * k + j) rfl hW.2.1 (by omega) (by omega) ?_
            (try refine pb_Ex.run rfl ?_)
            refine pb_Ex.mc rfl rfl rfl rfl hW hf rfl rfl (mo_writesNumber _ hW (by show (wr_nu (wr_sg (wr_nu (wr_sg P 32) (F 0 (25 + 28 * k + 2 * j + 0))) 124) (F 0 (25 + 28 * k + 2 * j + 1))).2 + 1 < 98; omega) _ ⟨wc.1, Int.le_trans wc.2 (by decide)⟩) (by omega) (by omega) (by omega) (fun h1 hW hf => ?_)
            (try refine pb_Ex.run rfl ?_)
            refine ih (j + 1) _ _ (by omega) (by push_cast; rfl) ?_ hf
            rw [ej]
            unfold wr_fr
            rw [if_pos (by omega)]
            exact hW
      exact loop (ya_n (F 0) k) 0 _ 0 (by omega) rfl hW hf
    unfold wr_st at fin ⊢
    refine pb_Ex.if_ne rfl (by omega) (fun s0 => ?_) (fun s0 => ?_)
    · rw [if_neg s0] at fin ⊢
      refine pb_Ex.run rfl ?_
      refine pb_Ex.icmp_ne rfl (by omega) (by omega) (fun s1 => ?_) (fun s1 => ?_)
      · rw [if_neg s1] at fin ⊢
        refine pb_Ex.run rfl ?_
        refine pb_Ex.icmp_ne rfl (by omega) (by omega) (fun s2 => ?_) (fun s2 => ?_)
        · rw [if_neg s2] at fin ⊢
          refine pb_Ex.run rfl ?_
          exact fin _ _ hW hf
        · rw [if_pos s2] at fin ⊢
          refine pb_Ex.run rfl ?_
          exact fin _ _ hW hf
      · rw [if_pos s1] at fin ⊢
        refine pb_Ex.run rfl ?_
        exact fin _ _ hW hf
    · rw [if_pos s0] at fin ⊢
      refine pb_Ex.run rfl ?_
      exact fin _ _ hW hf
  · rw [if_neg c, if_neg (show ¬ (0 ≤ z ∧ z < F 0 0) by omega), if_neg (show ¬ (0 ≤ z ∧ z < F 0 0) by omega), if_neg (show ¬ (0 ≤ z ∧ z < F 0 0) by omega)]
    refine pb_Ex.ifF rfl (by omega) (by first | decide | (simp only [pb_cmp]; omega) | simp [pb_cmp]) ?_
    (try refine pb_Ex.run rfl ?_)
    refine pb_Ex.mc rfl rfl rfl rfl hW hf rfl rfl (mo_throwing hW (1)) (by omega) (by omega) (by omega) (fun h1 hW hf => ?_)
    (try refine pb_Ex.run rfl ?_)
    refine pb_Ex.iret rfl rfl (by omega) (by omega) ⟨rfl, hW.eqx (va_upup _ _ _ _), hf⟩
theorem mo_lineAt (hW : mo_W h o A x F) (N : Nat) (hN : x 16 = (N : Nat)) (hN9 : N ≤ 100) (hg : ∀ j : Nat, j < 100 → 0 ≤ F 15 j ∧ F 15 j ≤ 126) (v : Int) (hv : pb_rg v) : pb_Ctr G mX4_lineAt 5 0 0 [pb_r o, pb_i v] h (mo_Q o A h (some (pb_i (if 0 ≤ v ∧ v < N then F 15 v.toNat else 65535))) (va_up x 9 (if 0 ≤ v ∧ v < N then 0 else 1)) F) := by
  have hf : mo_Fr o A h h := mo_Fr.rf
  refine pb_Ctr.of rfl rfl rfl tX4_lineAt_ok rfl ?_
  (try refine pb_Ex.run rfl ?_)
  refine pb_Ex.mput (x' := va_up x 9 0) rfl rfl hW hf rfl rfl trivial (fun h1 hW hf => ?_)
  (try refine pb_Ex.run rfl ?_)
  refine pb_Ex.i2l rfl (by omega) ?_
  (try refine pb_Ex.run rfl ?_)
  refine pb_Ex.getf (v := pb_i (x 16)) rfl rfl hW.1 rfl ?_
  (try refine pb_Ex.run rfl ?_)
  rw [hN]
  refine pb_Ex.i2l rfl (by omega) ?_
  refine pb_Ex.pS rfl rfl rfl rfl (mo_inn v 0 ((N : Int) - 1) (by omega) (by omega) (by omega)) (by omega) (by omega) (by omega) ?_
  (try refine pb_Ex.run rfl ?_)
  unfold mo_in
  by_cases c : 0 ≤ v ∧ v ≤ (N : Int) - 1
  · rw [if_pos c, if_pos (show 0 ≤ v ∧ v < N by omega), if_pos (show 0 ≤ v ∧ v < N by omega)]
    obtain ⟨k, rfl⟩ := Int.eq_ofNat_of_zero_le c.1
    rw [Int.toNat_natCast]
    have hgk := hg k (by omega)
    refine pb_Ex.ifF rfl (by omega) (by first | decide | (simp only [pb_cmp]; omega) | simp [pb_cmp]) ?_
    (try refine pb_Ex.run rfl ?_)
    refine pb_Ex.getf (v := pb_r (A 15)) rfl rfl hW.1 rfl ?_
    (try refine pb_Ex.run rfl ?_)
    refine pb_Ex.iat k rfl hW.2.2.2.2.2.2.2.1 rfl (by omega) ?_
    refine pb_Ex.run rfl ?_
    have e : F 15 k % 65536 = F 15 k := by omega
    show pb_Ex G _ _ _ _ _ _ _ _ _ [pb_i (F 15 k % 65536)] _
    rw [e]
    exact pb_Ex.zret (ty := .char) rfl rfl (pb_nch (by omega)).1 (by omega) (by omega) ⟨rfl, hW, hf⟩
  · rw [if_neg c, if_neg (show ¬ (0 ≤ v ∧ v < N) by omega), if_neg (show ¬ (0 ≤ v ∧ v < N) by omega)]
    refine pb_Ex.ifT rfl (by omega) (by first | decide | (simp only [pb_cmp]; omega) | simp [pb_cmp]) ?_
    (try refine pb_Ex.run rfl ?_)
    refine pb_Ex.mc rfl rfl rfl rfl hW hf rfl rfl (mo_throwing hW 1) (by omega) (by omega) (by omega) (fun h1 hW hf => ?_)
    refine pb_Ex.run rfl ?_
    exact pb_Ex.zret (ty := .char) rfl rfl (pb_nch (by decide)).1 (by omega) (by omega) ⟨rfl, hW.eqx (va_upup _ _ _ _), hf⟩
end MODEL18
