set_option maxRecDepth 100000
def xLR : String := "PuddleBoatyard$LaunchRefused"
def xSY : String := "PuddleBoatyard$SyntaxError"
section OWNX
variable {G : pb_G} {K : co_K} {h : pb_H} {A : Nat → Nat} {f : Nat → Int} {t lo o : Nat}
theorem pb_obj_thr {q ci N : Nat} {fs : List pb_V} {C0 : String} {T : u_T} (hb : h.2 q = some (pb_ob ci fs)) (hc : pb_cl[ci]? = some (C0, T, N)) : ∀ (s : State) (H : Heap), pb_SF G → G.2.1.vm.Alike s.vm → pb_Rep G h H → ∃ ce, H[q]? = some ce ∧ ce.vm = .none ∧ s.vm.findClass C0 = some ce.cls := by
  intro s H hSF hAl hR
  obtain ⟨hcz, -⟩ := hR.2.2 q _ hb
  obtain ⟨r, h1, -, cell, c1, c2, c3, -⟩ := hcz
  cases Option.some.inj (h1.symm.trans hc)
  have hKs : va_K G.2.2.1 pb_cl [] s := va_K.moved hAl hSF.1
  obtain ⟨-, hfc⟩ := hKs.1 ci _ hc
  exact ⟨cell, c1, c3, by rw [c2]; exact hfc.1⟩
theorem lr_init (hG : co_G G K) (v : Int) (hb : h.2 o = some (pb_ob 7 [pb_0, pb_0, pb_0, pb_0, pb_0, pb_i 0, pb_i 0])) : pb_Ctr G mX9_init 6 0 0 [pb_r o, pb_i v] h (fun oc h' => oc = .inl none ∧ h'.1 = h.1 ∧ (∃ r1 r2, h'.2 o = some (pb_ob 7 [pb_r o, pb_q r1, pb_q r2, pb_0, pb_0, pb_i 0, pb_i v])) ∧ ∀ b, b ≠ o → h'.2 b = h.2 b) := by
  refine pb_Ctr.of rfl rfl rfl tX9_init_ok rfl ?_
  (try refine pb_Ex.run rfl ?_)
  refine pb_Ex.superX pb_own9 rfl q768 hG.2.2.1 hb rfl (by omega) (by omega) (by omega) (fun r1 r2 => ?_)
  refine pb_Ex.run rfl ?_
  refine pb_Ex.putfF rfl rfl (pb_set_same) (Or.inl rfl) (fun r hr => by cases hr; rfl) rfl (by first | trivial | exact Or.inl rfl | exact Or.inr rfl | (show _ ∨ _; omega) | (show _ ∧ _; omega)) ?_
  (try refine pb_Ex.run rfl ?_)
  refine pb_Ex.vret rfl rfl (by omega) (by omega) (⟨rfl, rfl, ⟨r1, r2, pb_set_same⟩, fun b hb => by rw [pb_set_ne hb, pb_set_ne hb]⟩)
theorem sy_init (hG : co_G G K) (v : Int) (hb : h.2 o = some (pb_ob 11 [pb_0, pb_0, pb_0, pb_0, pb_0, pb_i 0, pb_i 0])) : pb_Ctr G mX13_init 6 0 0 [pb_r o, pb_i v] h (fun oc h' => oc = .inl none ∧ h'.1 = h.1 ∧ (∃ r1 r2, h'.2 o = some (pb_ob 11 [pb_r o, pb_q r1, pb_q r2, pb_0, pb_0, pb_i 0, pb_i v])) ∧ ∀ b, b ≠ o → h'.2 b = h.2 b) := by
  refine pb_Ctr.of rfl rfl rfl tX13_init_ok rfl ?_
  (try refine pb_Ex.run rfl ?_)
  refine pb_Ex.superX pb_own13 rfl q1781 hG.2.2.1 hb rfl (by omega) (by omega) (by omega) (fun r1 r2 => ?_)
  refine pb_Ex.run rfl ?_
  refine pb_Ex.putfF rfl rfl (pb_set_same) (Or.inl rfl) (fun r hr => by cases hr; rfl) rfl (by first | trivial | exact Or.inl rfl | exact Or.inr rfl | (show _ ∨ _; omega) | (show _ ∧ _; omega)) ?_
  (try refine pb_Ex.run rfl ?_)
  refine pb_Ex.vret rfl rfl (by omega) (by omega) (⟨rfl, rfl, ⟨r1, r2, pb_set_same⟩, fun b hb => by rw [pb_set_ne hb, pb_set_ne hb]⟩)
/-- an operation's end; w: the reason that a LaunchRefused carries -/
def op_Q (K : co_K) (h : pb_H) (A : Nat → Nat) (lo : Nat) (ex : Int → String) (r : Int × Int × (Nat → Int)) (w : Int) : pb_O → pb_H → Prop := fun oc h' => fr_P (fun b _ => b < lo) h h' ∧ ((r.1 = 0 ∧ oc = .inl (some (pb_i r.2.1)) ∧ ∃ A', A' 0 = A 0 ∧ yd_W K h' A' r.2.2 ∧ yd_J K A' (r.2.2 0).toNat lo) ∨ (r.1 ≠ 0 ∧ ∃ q, oc = .inr (ex r.1, q) ∧ (ex r.1 = xLR → ∃ r1 r2, h'.2 q = some (pb_ob 7 [pb_r q, pb_q r1, pb_q r2, pb_0, pb_0, pb_i 0, pb_i w]))))
theorem yd_Q.op {ex : Int → String} {r : Int × Int × (Nat → Int)} {w : Int} {oc : pb_O} {h' : pb_H} (hq : yd_Q K h A lo ex r oc h') (hx : ∀ c, ex c ≠ xLR) : op_Q K h A lo ex r w oc h' := by
  obtain ⟨q1, q2⟩ := hq
  refine ⟨q1, ?_⟩
  rcases q2 with q2 | ⟨q2, q, q3⟩
  · exact Or.inl q2
  · exact Or.inr ⟨q2, q, q3, fun e => absurd e (hx _)⟩
def ex_lau : Int → String := fun c => if c = 1 then xIOB else if c = 2 then xISE else xLR
theorem yd_launch (hG : co_G G K) (hK : co_W K h) (hW : yd_W K h A f) (ok : ya_ok t f) (hJ : yd_J K A (f 0).toNat lo) (hlo : lo ≤ h.1) (z : Int) (hz : pb_rg z) : pb_Ctr G mX2_launch 8 43 90 [pb_r (A 0), pb_i z] h (op_Q K h A lo ex_lau ((sp_launch f z).1, (sp_launch f z).2.1, (sp_launch f z).2.2.1) (sp_launch f z).2.2.2) := by
  have hn := ok.num
  unfold sp_launch
  refine pb_Ctr.of rfl rfl rfl tX2_launch_ok rfl ?_
  (try refine pb_Ex.run rfl ?_)
  refine pb_Ex.fin (fun hf => ?_)
  by_cases cz : 0 ≤ z ∧ z < f 0
  · rw [if_neg (not_not_intro cz)]
    obtain ⟨k, rfl⟩ := Int.eq_ofNat_of_zero_le cz.1
    rw [Int.toNat_natCast]
    have hk : k < (f 0).toNat := by omega
    have oh := ok.hu2 hk
    have hnn := oh.nn
    have hh := hW.2.2.1 k hk
    have drr := ya_dr_rg (ya_wd f k) (ya_wt f k)
    refine pb_Ex.pV rfl rfl rfl rfl (hW.1) rfl rfl (yd_hull1 hW ok k cz) (by omega) (by omega) (by omega) ?_
    (try refine pb_Ex.run rfl ?_)
    rw [Int.toNat_natCast]
    refine pb_Ex.gets rfl (hG.2.2.2.2.1 0 (by omega)).1 q327 ?_
    (try refine pb_Ex.run rfl ?_)
    refine pb_Ex.pV rfl rfl rfl rfl (hh.1) rfl rfl (hu_is hG hh oh 0 (by omega)) (by omega) (by omega) (by omega) ?_
    (try refine pb_Ex.run rfl ?_)
    by_cases cs : f (21 + 28 * k) = 0
    · rw [if_neg (not_not_intro cs), if_pos (show f (21 + 28 * k) = (0 : Nat) from cs)]
      refine pb_Ex.pS rfl rfl rfl rfl (ck_st1) (by omega) (by omega) (by omega) ?_
      (try refine pb_Ex.run rfl ?_)
      refine pb_Ex.pV rfl rfl rfl rfl (hh.1) rfl rfl (hu_size hh) (by omega) (by omega) (by omega) ?_
      (try refine pb_Ex.run rfl ?_)
      refine pb_Ex.icmp_ge rfl (by omega) (by omega) (fun c2 => ?_) (fun c2 => ?_)
      · refine pb_Ex.run rfl ?_
        refine pb_Ex.rV rfl rfl rfl rfl hh.1 rfl rfl (hu_draught hG hh oh) (by omega) (by omega) (by omega) (fun h2 x2 => ?_)
        (try refine pb_Ex.run rfl ?_)
        have hW2 := hW.x x2
        refine pb_Ex.fin (fun hf2 => ?_)
        refine pb_Ex.icmp_ne rfl (by omega) (by omega) (fun c3 => ?_) (fun c3 => ?_)
        · refine pb_Ex.run rfl ?_
          have ht := ok.tid (i := (f 1 % 12).toNat) (by omega)
          refine pb_Ex.getf rfl rfl hW2.1 rfl ?_
          (try refine pb_Ex.run rfl ?_)
          refine pb_Ex.pV rfl rfl rfl rfl (hW2.1) rfl rfl (yd_tide hW2 (f 1) (by omega)) (by omega) (by omega) (by omega) ?_
          (try refine pb_Ex.run rfl ?_)
          refine pb_Ex.icmp_le rfl (by omega) (by omega) (fun c4 => ?_) (fun c4 => ?_)
          · have ew : sp_why f k = 0 := by unfold sp_why; rw [if_neg (by omega), if_neg (by omega), if_neg (by omega)]
            rw [ew, if_neg (by omega)]
            refine pb_Ex.run rfl ?_
            have hh2 := hW2.2.2.1 k hk
            have hE := hu_E (hK.x hG x2) hh2 0 (by omega)
            have ge := yd_ge hJ (i := 7 + 4 * k) (by omega) hE
            refine pb_Ex.gets rfl (hG.2.2.2.2.1 1 (by omega)).1 q392 ?_
            (try refine pb_Ex.run rfl ?_)
            refine pb_Ex.putf rfl rfl (hh2.1) rfl rfl (by first | trivial | exact Or.inl rfl | exact Or.inr rfl | (show _ ∨ _; omega) | (show _ ∧ _; omega)) ?_
            (try refine pb_Ex.run rfl ?_)
            refine pb_Ex.iret rfl rfl (by omega) (by omega) (⟨x2.P.st _ (fun c hc => by show ¬ A (7 + 4 * k) < lo; omega), Or.inl ⟨rfl, rfl, A, rfl, yd_own (hK.x hG x2) hW2 ok hJ hk ?_ (fun i h1 h2 h3 => va_upN _ _ h1), ?_⟩⟩)
            · dsimp only
              rw [va_upS, va_upN f 1 (show 23 + 28 * k ≠ 21 + 28 * k by omega), va_upN f 1 (show 24 + 28 * k ≠ 21 + 28 * k by omega)]
              rfl
            · show yd_J K A (va_up f (21 + 28 * k) 1 0).toNat lo
              rw [va_upN f 1 (show 0 ≠ 21 + 28 * k by omega)]
              exact hJ
          · have ew : sp_why f k = 3 := by unfold sp_why; rw [if_neg (by omega), if_neg (by omega), if_pos (by omega)]
            rw [ew, if_pos (by omega)]
            refine pb_Ex.new 7 7 RX9 TX9 [pb_0, pb_0, pb_0, pb_0, pb_0, pb_i 0, pb_i 0] rfl rfl rfl rfl (fun j hj => by
              have hj : j < 7 := hj
              match j, hj with
              | 0, _ => rfl
              | 1, _ => rfl
              | 2, _ => rfl
              | 3, _ => rfl
              | 4, _ => rfl
              | 5, _ => rfl
              | 6, _ => rfl) (by omega) (by omega) ?_
            refine pb_Ex.run rfl ?_
            refine pb_Ex.cIo rfl rfl rfl rfl (lr_init hG 3 pb_new_same) (by omega) (by omega) (by omega) (fun h3 e3 => ?_)
            obtain ⟨s3, ⟨r1, r2, b3⟩, x3⟩ := e3
            have s3 : h3.1 = h2.1 + 1 := s3
            refine pb_Ex.athrow rfl (pb_obj_thr b3 rfl) (pb_Xx.out rfl (by omega) (by omega) ⟨?_, Or.inr ⟨show (3 : Int) ≠ 0 by decide, _, rfl, fun _ => ⟨r1, r2, b3⟩⟩⟩)
            refine ⟨by have := x2.1; omega, fun b c hb hl => ?_⟩
            have := hf b c hb
            have := x2.1
            rw [x3 b (by show b ≠ h2.1; omega), pb_new_ne (by omega)]
            exact x2.at hb
        · have ew : sp_why f k = 2 := by unfold sp_why; rw [if_neg (by omega), if_pos (by omega)]
          rw [ew, if_pos (by omega)]
          refine pb_Ex.new 7 7 RX9 TX9 [pb_0, pb_0, pb_0, pb_0, pb_0, pb_i 0, pb_i 0] rfl rfl rfl rfl (fun j hj => by
            have hj : j < 7 := hj
            match j, hj with
            | 0, _ => rfl
            | 1, _ => rfl
            | 2, _ => rfl
            | 3, _ => rfl
            | 4, _ => rfl
            | 5, _ => rfl
            | 6, _ => rfl) (by omega) (by omega) ?_
          refine pb_Ex.run rfl ?_
          refine pb_Ex.cIo rfl rfl rfl rfl (lr_init hG 2 pb_new_same) (by omega) (by omega) (by omega) (fun h3 e3 => ?_)
          obtain ⟨s3, ⟨r1, r2, b3⟩, x3⟩ := e3
          have s3 : h3.1 = h2.1 + 1 := s3
          refine pb_Ex.athrow rfl (pb_obj_thr b3 rfl) (pb_Xx.out rfl (by omega) (by omega) ⟨?_, Or.inr ⟨show (3 : Int) ≠ 0 by decide, _, rfl, fun _ => ⟨r1, r2, b3⟩⟩⟩)
          refine ⟨by have := x2.1; omega, fun b c hb hl => ?_⟩
          have := hf b c hb
          have := x2.1
          rw [x3 b (by show b ≠ h2.1; omega), pb_new_ne (by omega)]
          exact x2.at hb
      · have ew : sp_why f k = 1 := by unfold sp_why; rw [if_pos (by omega)]
        rw [ew, if_pos (by omega)]
        refine pb_Ex.new 7 7 RX9 TX9 [pb_0, pb_0, pb_0, pb_0, pb_0, pb_i 0, pb_i 0] rfl rfl rfl rfl (fun j hj => by
          have hj : j < 7 := hj
          match j, hj with
          | 0, _ => rfl
          | 1, _ => rfl
          | 2, _ => rfl
          | 3, _ => rfl
          | 4, _ => rfl
          | 5, _ => rfl
          | 6, _ => rfl) (by omega) (by omega) ?_
        refine pb_Ex.run rfl ?_
        refine pb_Ex.cIo rfl rfl rfl rfl (lr_init hG 1 pb_new_same) (by omega) (by omega) (by omega) (fun h3 e3 => ?_)
        obtain ⟨s3, ⟨r1, r2, b3⟩, x3⟩ := e3
        have s3 : h3.1 = h.1 + 1 := s3
        refine pb_Ex.athrow rfl (pb_obj_thr b3 rfl) (pb_Xx.out rfl (by omega) (by omega) ⟨?_, Or.inr ⟨show (3 : Int) ≠ 0 by decide, _, rfl, fun _ => ⟨r1, r2, b3⟩⟩⟩)
        refine ⟨by omega, fun b c hb hl => ?_⟩
        have := hf b c hb
        rw [x3 b (by show b ≠ h.1; omega), pb_new_ne (by omega)]
        exact hb
    · rw [if_pos cs, if_neg (show ¬ f (21 + 28 * k) = (0 : Nat) from cs)]
      refine pb_Ex.tS rfl rfl rfl rfl (ck_st0 hG) (by omega) (by omega) (by omega) (fun q h1 hx1 => pb_Xx.out rfl (by omega) (by omega) ?_)
      exact ⟨fr_P.ho (fr_x.P hx1) (by omega), Or.inr ⟨show (2 : Int) ≠ 0 by decide, _, rfl, fun e => absurd e (show ¬ xISE = xLR by decide +kernel)⟩⟩
  · rw [if_pos cz]
    refine pb_Ex.tV rfl rfl rfl rfl (hW.1) rfl rfl (yd_hull0 hG hW ok z hz cz) (by omega) (by omega) (by omega) (fun q h1 hx1 => pb_Xx.out rfl (by omega) (by omega) ?_)
    exact ⟨fr_P.ho (fr_x.P hx1) (by omega), Or.inr ⟨show (1 : Int) ≠ 0 by decide, _, rfl, fun e => absurd e (show ¬ xIOB = xLR by decide +kernel)⟩⟩
end OWNX
