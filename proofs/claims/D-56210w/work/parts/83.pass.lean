set_option maxRecDepth 100000
section PASS
variable {G : pb_G} {K : co_K} {h : pb_H} {A : Nat → Nat} {f : Nat → Int} {t lo : Nat}
theorem ph_22 {f : Nat → Int} {hr : Int} {n : Nat} (hfr : ∀ k, k < n → ya_fr f k) (k : Nat) : (ph_F f hr n).1 (22 + 28 * k) = f (22 + 28 * k) := by
  obtain ⟨p1, p2, p3⟩ := ph_cl (hr := hr) n hfr
  by_cases c : k < n
  · rw [p2 k c _ (by omega) (by omega), cp_h_out (hfr k c) _ (by omega) (by omega) (by omega)]
  · exact p1 _ (fun q hq => by omega)
theorem cp_r01 (f : Nat → Int) (k : Nat) (hr : Int) : cp_r f k hr = 0 ∨ cp_r f k hr = 1 := by unfold cp_r; split <;> omega
theorem yd_passHour (hG : co_G G K) (hK : co_W K h) (hW : yd_W K h A f) (ok : ya_ok t f) (ht : t + 1 ≤ 200000) (hJ : yd_J K A (f 0).toNat lo) (hloG : pb_b G ≤ lo) : pb_Ctr G mX2_passHour 7 6 12 [pb_r (A 0)] h (fun oc h' => oc = .inl (some (pb_i (sp_hour f).2)) ∧ yd_W K h' A (sp_hour f).1 ∧ fr_P (fun b _ => b < lo) h h') := by
  have hn := ok.num
  have nE0 := yd_E hK hW 0 (by omega)
  have g0 := yd_ge hJ (i := 0) (by omega) nE0
  rw [← ph_hour ok]
  refine pb_Ctr.of rfl rfl rfl tX2_passHour_ok rfl ?_
  (try refine pb_Ex.run rfl ?_)
  refine pb_Ex.getf rfl rfl hW.1 rfl ?_
  (try refine pb_Ex.run rfl ?_)
  refine pb_Ex.putf rfl rfl (hW.1) rfl rfl (by first | trivial | exact Or.inl rfl | exact Or.inr rfl | (show _ ∨ _; omega) | (show _ ∧ _; omega)) ?_
  (try refine pb_Ex.run rfl ?_)
  obtain ⟨F, hF⟩ : ∃ F, F = va_up f 1 (f 1 + 1) := ⟨_, rfl⟩
  have Fo : ∀ i, i ≠ 1 → F i = f i := fun i hi => by rw [hF]; exact va_upN _ _ hi
  have F1 : F 1 = f 1 + 1 := by rw [hF]; exact va_upS _ _ _
  have fr : ∀ k, k < (f 0).toNat → ya_fr F k := fun k hk => (ok.fr (k := k) (by omega)).cg (Fo _ (by omega))
  have W1 : yd_W K (pb_set h (A 0) (pb_ob 1 ([pb_r (A 1), pb_r (A 2), pb_r (A 3), pb_r (A 4), pb_i (f 1), pb_i (f 3), pb_j (f 4)].set 4 (pb_i (f 1 + 1))))) A F := by
    refine yd_W.fld hW ok.n8 (fr_P.rf.st _ (fun c hc z => z rfl)) ?_ (fun i h1 _ _ => Fo i h1)
    rw [pb_set_same, F1, Fo 3 (by omega), Fo 4 (by omega)]
    rfl
  have x1 : fr_P (fun b _ => b < lo) h (pb_set h (A 0) (pb_ob 1 ([pb_r (A 1), pb_r (A 2), pb_r (A 3), pb_r (A 4), pb_i (f 1), pb_i (f 3), pb_j (f 4)].set 4 (pb_i (f 1 + 1))))) := fr_P.rf.st _ (fun c hc => by omega)
  generalize pb_set h (A 0) (pb_ob 1 ([pb_r (A 1), pb_r (A 2), pb_r (A 3), pb_r (A 4), pb_i (f 1), pb_i (f 3), pb_j (f 4)].set 4 (pb_i (f 1 + 1)))) = h1 at W1 x1 ⊢
  rw [← hF]
  have loop : ∀ (d j : Nat) (z w : Int) (h2 : pb_H) (cc uu : Nat), j + d = (f 0).toNat → z = j → w = (ph_F F (f 1 + 1) j).2 → yd_W K h2 A (ph_F F (f 1 + 1) j).1 → co_W K h2 → fr_P (fun b _ => b < lo) h h2 → cc + d ≤ 6 → uu + 2 * d ≤ 12 → pb_Ex G mX2_passHour 7 6 12 (fun oc h' => oc = .inl (some (pb_i (ph_F F (f 1 + 1) (f 0).toNat).2)) ∧ yd_W K h' A (ph_F F (f 1 + 1) (f 0).toNat).1 ∧ fr_P (fun b _ => b < lo) h h') cc uu 14 [some (pb_r (A 0)), some (pb_i w), some (pb_i z)] [] h2 := by
    intro d
    induction d with
    | zero =>
      intro j z w h2 cc uu hj hz hw p1 p2 p3 hc hu
      have ej : j = (f 0).toNat := by omega
      subst ej
      obtain ⟨q1, q2, q3⟩ := ph_cl (f := F) (hr := f 1 + 1) (f 0).toNat fr
      have e0 : (ph_F F (f 1 + 1) (f 0).toNat).1 0 = f 0 := by rw [q1 0 (fun k hk => by omega), Fo 0 (by omega)]
      obtain ⟨mc, ho⟩ := p1.2.1.obj
      rw [e0] at ho
      have sz := ja_size (G := G) p1.2.1
      rw [e0] at sz
      refine pb_Ex.run rfl ?_
      refine pb_Ex.getf rfl rfl p1.1 rfl ?_
      (try refine pb_Ex.run rfl ?_)
      refine pb_Ex.pV rfl rfl rfl rfl (ho) rfl rfl (sz) (by omega) (by omega) (by omega) ?_
      (try refine pb_Ex.run rfl ?_)
      refine pb_Ex.icmpT rfl (by omega) (by omega) (by first | decide | (simp only [pb_cmp]; omega) | simp [pb_cmp]) ?_
      (try refine pb_Ex.run rfl ?_)
      rw [hw]
      refine pb_Ex.iret rfl rfl (by omega) (by omega) (⟨rfl, p1, p3⟩)
    | succ d ih =>
      intro j z w h2 cc uu hj hz hw p1 p2 p3 hc hu
      subst hz
      obtain ⟨q1, q2, q3⟩ := ph_cl (f := F) (hr := f 1 + 1) j (fun k hk => fr k (by omega))
      have e0 : (ph_F F (f 1 + 1) j).1 0 = f 0 := by rw [q1 0 (fun k hk => by omega), Fo 0 (by omega)]
      have e1 : (ph_F F (f 1 + 1) j).1 1 = f 1 + 1 := by rw [q1 1 (fun k hk => by omega), F1]
      have e22 := fun k => ph_22 (f := F) (hr := f 1 + 1) (n := j) (fun k hk => fr k (by omega)) k
      have eP : ph_F F (f 1 + 1) (j + 1) = (cp_h (ph_F F (f 1 + 1) j).1 j (f 1 + 1), (ph_F F (f 1 + 1) j).2 + cp_r (ph_F F (f 1 + 1) j).1 j (f 1 + 1)) := rfl
      have eb : ∀ i, 21 + 28 * j ≤ i → i < 49 + 28 * j → (ph_F F (f 1 + 1) j).1 i = f i := fun i h1 h2 => by rw [q1 i (fun k hk => by omega), Fo i (by omega)]
      have w0 : 0 ≤ w ∧ w ≤ j := by
        rw [hw, q3]
        have := ya_sum_le (g := fun k => cp_r F k (f 1 + 1)) (B := 1) j (fun k hk => by rcases cp_r01 F k (f 1 + 1) with z | z <;> (show 0 ≤ cp_r F k (f 1 + 1) ∧ cp_r F k (f 1 + 1) ≤ 1) <;> omega)
        omega
      generalize ph_F F (f 1 + 1) j = PF at *
      obtain ⟨g, cnt⟩ := PF
      dsimp only at e0 e1 e22 eP eb hw p1 q1
      have okg : hu_ok g j := ⟨(ok.hok (k := j) (by omega)).eq (by omega) (by omega) eb, by omega⟩
      have hl := ok.hull (k := j) (by omega)
      have hL := p1.2.1
      have hh := p1.2.2.1 j (by omega)
      obtain ⟨mc, ho⟩ := hL.obj
      have n8 : ∀ k, k < (g 0).toNat → ya_n g k ≤ 8 := fun k hk => by
        rw [ya_n_cg (f := f) ((e22 k).trans (Fo _ (by omega)))]
        exact ok.n8 k (by omega)
      have hJg : yd_J K A (g 0).toNat lo := by rw [e0]; exact hJ
      have y1 := p1.1
      rw [e1] at y1
      refine pb_Ex.run rfl ?_
      refine pb_Ex.getf rfl rfl y1 rfl ?_
      (try refine pb_Ex.run rfl ?_)
      refine pb_Ex.pV rfl rfl rfl rfl (ho) rfl rfl (ja_size hL) (by omega) (by omega) (by omega) ?_
      (try refine pb_Ex.run rfl ?_)
      refine pb_Ex.icmpF rfl (by omega) (by omega) (by first | decide | (simp only [pb_cmp]; omega) | simp [pb_cmp]) ?_
      (try refine pb_Ex.run rfl ?_)
      refine pb_Ex.getf rfl rfl y1 rfl ?_
      (try refine pb_Ex.run rfl ?_)
      refine pb_Ex.pV rfl rfl rfl rfl (ho) rfl rfl (ja_get hL j (by omega)) (by omega) (by omega) (by omega) ?_
      (try refine pb_Ex.run rfl ?_)
      refine pb_Ex.cast0 rfl rfl (hh.1) (fun r hr => by cases hr; rfl) ?_
      (try refine pb_Ex.run rfl ?_)
      refine pb_Ex.getf rfl rfl y1 rfl ?_
      (try refine pb_Ex.run rfl ?_)
      refine pb_Ex.cV rfl rfl rfl rfl hh.1 rfl rfl (hu_sinksIn hG hh okg (by rw [eb _ (by omega) (by omega), e1]; omega) (by omega) (f 1 + 1) (by omega)) ⟨by omega, by omega, by omega⟩ (fun v h3 hq => ?_) (fun E q9 h2 hq => by cases hq.1)
      obtain ⟨d1, d2, d3⟩ := hq
      cases d1
      (try refine pb_Ex.run rfl ?_)
      have hE0 := hu_E p2 hh 0 (by omega)
      have hE2 := hu_E p2 hh 2 (by omega)
      have ge0 := yd_ge hJg (i := 7 + 4 * j) (by omega) hE0
      have ge2 := yd_ge hJg (i := 7 + 4 * j + 2) (by omega) hE2
      have hfrg : ya_fr g j := (fr j (by omega)).cg (e22 j)
      have W3 := yd_W.hull (A' := A) (f' := cp_h g j (f 1 + 1)) p1 n8 hJg (by omega) (d3.mono (fun b c hb hl => ⟨fun e => hE0 (by have := hl 0 (by omega) e; rw [e] at this; exact this), fun e => hE2 (by have := hl 2 (by omega) e; rw [e] at this; exact this)⟩)) (fun i _ => rfl) d2 (fun i hi _ => cp_h_out hfrg i (by omega) (by omega) (by omega)) (by omega) (by rw [q1 2 (fun k hk => by omega), Fo 2 (by omega)]; omega)
      have x3 : fr_P (fun b _ => b < lo) h h3 := p3.tr (d3.mono (fun b c hb hl => by
        have hl : b < lo := hl
        exact ⟨by show b ≠ A (7 + 4 * j + 0); have : A (7 + 4 * j + 0) = A (7 + 4 * j) := rfl; omega, by show b ≠ A (7 + 4 * j + 2); omega⟩))
      have K3 : co_W K h3 := hK.lo hG x3 (fun b c hb _ => by show b < lo; omega)
      rcases cp_r01 g j (f 1 + 1) with z | z
      · rw [z] at eP ⊢
        refine pb_Ex.ifT rfl (by omega) (by first | decide | (simp only [pb_cmp]; omega) | simp [pb_cmp]) ?_
        (try refine pb_Ex.run rfl ?_)
        refine ih (j + 1) _ _ h3 _ _ (by omega) (by omega) (by rw [eP]; show _ = cnt + 0; omega) (by rw [eP]; exact W3) K3 x3 (by omega) (by omega)
      · rw [z] at eP ⊢
        refine pb_Ex.ifF rfl (by omega) (by first | decide | (simp only [pb_cmp]; omega) | simp [pb_cmp]) ?_
        (try refine pb_Ex.run rfl ?_)
        refine ih (j + 1) _ _ h3 _ _ (by omega) (by omega) (by rw [eP]; show _ = cnt + 1; omega) (by rw [eP]; exact W3) K3 x3 (by omega) (by omega)
  exact loop (f 0).toNat 0 0 0 h1 _ _ (by omega) rfl rfl W1 (hK.lo hG x1 (fun b c hb _ => by show b < lo; omega)) x1 (by omega) (by omega)
theorem yd_pass (hG : co_G G K) (hK : co_W K h) (hW : yd_W K h A f) (ok : ya_ok t f) (ht : t + 99 ≤ 200000) (hJ : yd_J K A (f 0).toNat lo) (hlo : lo ≤ h.1) (hloG : pb_b G ≤ lo) (v : Int) (hv : pb_rg v) : pb_Ctr G mX2_pass 8 595 1189 [pb_r (A 0), pb_i v] h (yd_Q K h A lo ex_arg (sp_pass f v)) := by
  have hn := ok.num
  unfold sp_pass
  refine pb_Ctr.of rfl rfl rfl tX2_pass_ok rfl ?_
  (try refine pb_Ex.run rfl ?_)
  refine pb_Ex.fin (fun hf => ?_)
  refine pb_Ex.newZ 1 rfl rfl (by omega) (by omega) (by omega) ?_
  (try refine pb_Ex.run rfl ?_)
  refine pb_Ex.pS rfl rfl rfl rfl (ck_bt (v) (1) (99) (by omega) (by omega) (by omega)) (by omega) (by omega) (by omega) ?_
  obtain ⟨v1, hv1, iv1⟩ := bt_ex (1 ≤ v ∧ v ≤ 99)
  rw [← hv1]
  (try refine pb_Ex.run rfl ?_)
  refine pb_Ex.zstat (0) rfl (pb_new_same) (by omega) (by omega) (by omega) ?_
  (try refine pb_Ex.run rfl ?_)
  have x2 : fr_x h (pb_set (pb_new h (pb_aI 1 1 fun _ => 0)) h.1 (pb_aI 1 1 (va_up (fun _ => 0) 0 v1))) := (fr_x.rf.nw hf _).st hf _ (Nat.le_refl _)
  have b2 : (pb_set (pb_new h (pb_aI 1 1 fun _ => 0)) h.1 (pb_aI 1 1 (va_up (fun _ => 0) 0 v1))).2 h.1 = some (pb_aI 1 1 (va_up (fun _ => 0) 0 v1)) := pb_set_same
  generalize pb_set (pb_new h (pb_aI 1 1 fun _ => 0)) h.1 (pb_aI 1 1 (va_up (fun _ => 0) 0 v1)) = h2 at x2 b2 ⊢
  have ar := ar_1 iv1.1
  by_cases c : 1 ≤ v ∧ v ≤ 99
  · rw [if_neg (not_not_intro c)]
    refine pb_Ex.pS rfl rfl rfl rfl (ck_arg1 b2 (by omega) (ar.2.mpr (iv1.2.mpr c))) (by omega) (by omega) (by omega) ?_
    (try refine pb_Ex.run rfl ?_)
    obtain ⟨n, rfl⟩ := Int.eq_ofNat_of_zero_le (show 0 ≤ v by omega)
    rw [Int.toNat_natCast]
    have loop : ∀ (d j : Nat) (z w : Int) (h3 : pb_H) (cc uu : Nat), j + d = n → z = j → w = (sp_hrs f j).2 → yd_W K h3 A (sp_hrs f j).1 → yd_J K A ((sp_hrs f j).1 0).toNat lo → fr_P (fun b _ => b < lo) h h3 → cc + 6 * d ≤ 595 → uu + 12 * d ≤ 1189 → pb_Ex G mX2_pass 8 595 1189 (yd_Q K h A lo ex_arg (0, (sp_hrs f n).2, (sp_hrs f n).1)) cc uu 20 [some (pb_r (A 0)), some (pb_i n), some (pb_i w), some (pb_i z)] [] h3 := by
      intro d
      induction d with
      | zero =>
        intro j z w h3 cc uu hj hz hw p1 p2 p3 hc hu
        have ej : j = n := by omega
        subst ej
        refine pb_Ex.run rfl ?_
        refine pb_Ex.icmpT rfl (by omega) (by omega) (by first | decide | (simp only [pb_cmp]; omega) | simp [pb_cmp]) ?_
        (try refine pb_Ex.run rfl ?_)
        rw [hw]
        refine pb_Ex.iret rfl rfl (by omega) (by omega) (yd_Q.ok (A' := A) p3 rfl p1 p2)
      | succ d ih =>
        intro j z w h3 cc uu hj hz hw p1 p2 p3 hc hu
        subst hz
        have okj := sp_hrs_ok ok j (by omega)
        have rg := sp_hrs_rg ok j (by omega)
        refine pb_Ex.run rfl ?_
        refine pb_Ex.icmpF rfl (by omega) (by omega) (by first | decide | (simp only [pb_cmp]; omega) | simp [pb_cmp]) ?_
        (try refine pb_Ex.run rfl ?_)
        refine pb_Ex.cV rfl rfl rfl rfl p1.1 rfl rfl (yd_passHour hG (hK.lo hG p3 (fun b c hb _ => by show b < lo; omega)) p1 okj (by omega) p2 hloG) ⟨by omega, by omega, by omega⟩ (fun v h4 hq => ?_) (fun E q9 h2 hq => by cases hq.1)
        obtain ⟨d1, d2, d3⟩ := hq
        cases d1
        (try refine pb_Ex.run rfl ?_)
        have e0 : (sp_hour (sp_hrs f j).1).1 0 = (sp_hrs f j).1 0 := by
          rw [← ph_hour okj]
          have hnj := okj.num
          rw [(ph_cl (f := va_up (sp_hrs f j).1 1 ((sp_hrs f j).1 1 + 1)) (hr := (sp_hrs f j).1 1 + 1) ((sp_hrs f j).1 0).toNat (fun k hk => (okj.fr (k := k) (by omega)).cg (va_upN _ _ (by omega)))).1 0 (fun k hk => by omega), va_upN _ _ (by omega)]
        refine ih (j + 1) _ _ h4 _ _ (by omega) (by omega) (by rw [hw]; rfl) d2 ?_ (p3.tr d3) (by omega) (by omega)
        show yd_J K A ((sp_hour (sp_hrs f j).1).1 0).toNat lo
        rw [e0]
        exact p2
    exact loop n 0 0 0 h2 _ _ (by omega) rfl rfl (hW.x x2) hJ x2.P (by omega) (by omega)
  · rw [if_pos c]
    refine pb_Ex.tS rfl rfl rfl rfl (ck_argE hG b2 (by omega) ar.1 (fun q => c (iv1.2.mp (ar.2.mp q)))) (by omega) (by omega) (by omega) (fun q h1 hx1 => pb_Xx.out rfl (by omega) (by omega) ?_)
    exact yd_Q.no (ex := ex_arg) (fr_P.ho (fr_x.P (x2.tr hx1)) (by omega)) (by decide)
end PASS
