set_option maxRecDepth 100000
def cq_hh (g : Nat → Int) (N p : Nat) : cq_C := if (cq_ex g N 2 p).2 = true then (if cq_pk g N (cq_ex g N 2 p).1 = 111 then (7, cq_ad g N 3 3 0 (fun _ => 0, (cq_ex g N 2 p).1, true)) else (0, fun _ => 0, (cq_ex g N 4 (cq_ex g N 2 p).1).1, (cq_ex g N 4 (cq_ex g N 2 p).1).2)) else (0, fun _ => 0, (cq_ex g N 2 p).1, false)
def cq_cc (g : Nat → Int) (N p : Nat) : cq_C := if (cq_ex g N 5 p).2 = true then (if cq_pk g N (cq_ex g N 5 p).1 = 117 then (5, cq_ad g N 7 1 1 (cq_ad g N 6 1 0 (fun _ => 0, (cq_ex g N 5 p).1, true))) else (3, cq_ad g N 7 3 1 (cq_ad g N 8 1 0 (fun _ => 0, (cq_ex g N 5 p).1, true)))) else (5, fun _ => 0, (cq_ex g N 5 p).1, false)
def cq_cmd (g : Nat → Int) (N p : Nat) : cq_C := if cq_pk g N p = 104 then cq_hh g N p else if cq_pk g N p = 102 then (1, cq_ad g N 10 3 2 (cq_ad g N 7 3 1 (cq_ad g N 9 1 0 (fun _ => 0, p, true)))) else if cq_pk g N p = 109 then (2, cq_ad g N 11 1 0 (fun _ => 0, p, true)) else if cq_pk g N p = 99 then cq_cc g N p else if cq_pk g N p = 108 then (4, cq_ad g N 12 1 0 (fun _ => 0, p, true)) else if cq_pk g N p = 112 then (6, cq_ad g N 7 3 1 (cq_ad g N 13 1 0 (fun _ => 0, p, true))) else if cq_pk g N p = 116 then (8, cq_ad g N 7 3 1 (cq_ad g N 14 3 0 (fun _ => 0, p, true))) else if cq_pk g N p = 111 then (9, cq_ad g N 7 3 2 (cq_ad g N 7 3 1 (cq_ad g N 15 1 0 (fun _ => 0, p, true)))) else if cq_pk g N p = 100 then (10, cq_ad g N 7 1 1 (cq_ad g N 16 3 0 (fun _ => 0, p, true))) else (11, fun _ => 0, p, false)
section PARS4
variable {G : pb_G} {K : co_K} {h : pb_H} {o a v N p : Nat} {g : Nat → Int}
theorem ps_X.own {h0 h1 : pb_H} {o p : Nat} {oc : pb_O} {h' : pb_H} (h2 : ∀ b, b ≠ o → h1.2 b = h0.2 b) (h3 : h1.1 = h0.1) (hq : ps_X h1 o p oc h') : ps_X h0 o p oc h' := hq.tr ⟨by omega, fun b c hb hl => by rw [h2 b hl]; exact hb⟩
theorem ps_hh (hG : co_G G K) (hK : co_W K h) (hP : ps_W h o a v N g p) (hoG : pb_b G ≤ o) (hbG : pb_b G ≤ h.1) : pb_Ctr G mX12_hullOrHours 9 10 70 [pb_r o] h (cm_Q o a h (cq_hh g N p)) := by
  unfold cq_hh
  have hle := cq_ex_le (g := g) (i := 2) (by omega) hP.2.2.2
  refine pb_Ctr.of rfl rfl rfl tX12_hullOrHours_ok rfl ?_
  (try refine pb_Ex.run rfl ?_)
  refine pb_Ex.fin (fun hf => ?_)
  refine pb_Ex.ldcS rfl (hG.2.2.2.2.2.2 2 (12, 46, "h", [104]) rfl) ?_
  (try refine pb_Ex.run rfl ?_)
  refine pb_Ex.cV rfl rfl rfl rfl hP.1 rfl rfl (ps_expect hG hK hP 2 (by omega)) ⟨by omega, by omega, by omega⟩ (fun vv h1 hq => ?_) (fun E q9 h1 hq => ?_)
  · rcases hq with ⟨w1, w2, w3, w4, w5⟩ | ⟨w1, q, r1, r2, e, -⟩
    · cases w2
      generalize cq_ex g N 2 p = r at *
      obtain ⟨p1, w⟩ := r
      dsimp only at w1 w4 hle ⊢
      subst w1
      have P1 : ps_W h1 o a v N g p1 := hP.mv w4 w5 hle
      have x1 : fr_P (fun b _ => b ≠ o) h h1 := ⟨by omega, fun b c hb hl => by rw [w5 b hl]; exact hb⟩
      have K1 : co_W K h1 := hK.lo hG x1 (fun b c hb _ => by show b ≠ o; omega)
      have rg := cq_rg P1
      rw [if_pos rfl]
      (try refine pb_Ex.run rfl ?_)
      refine pb_Ex.fin (fun hf1 => ?_)
      refine pb_Ex.pV rfl rfl rfl rfl (P1.1) rfl rfl (ps_peek hG P1) (by omega) (by omega) (by omega) ?_
      (try refine pb_Ex.run rfl ?_)
      refine pb_Ex.icmp_ne rfl (by omega) (by omega) (fun c => ?_) (fun c => ?_)
      · rw [if_neg (show ¬ cq_pk g N p1 = 111 by omega)]
        refine pb_Ex.run rfl ?_
        refine pb_Ex.ldcS rfl (hG.2.2.2.2.2.2 4 (12, 59, "ull", [117, 108, 108]) rfl) ?_
        (try refine pb_Ex.run rfl ?_)
        have hle2 := cq_ex_le (g := g) (i := 4) (by omega) P1.2.2.2
        refine pb_Ex.cV rfl rfl rfl rfl P1.1 rfl rfl (ps_expect hG K1 P1 4 (by omega)) ⟨by omega, by omega, by omega⟩ (fun vv h2 hq => ?_) (fun E q9 h2 hq => ?_)
        · rcases hq with ⟨z1, z2, z3, z4, z5⟩ | ⟨z1, q, r1, r2, e, -⟩
          · cases z2
            generalize cq_ex g N 4 p1 = r at *
            obtain ⟨p2, w⟩ := r
            dsimp only at z1 z4 hle2 ⊢
            subst z1
            have P2 : ps_W h2 o a v N g p2 := P1.mv z4 z5 hle2
            have x2 : fr_P (fun b _ => b ≠ o) h h2 := x1.tr ⟨by omega, fun b c hb hl => by rw [z5 b hl]; exact hb⟩
            have K2 : co_W K h2 := hK.lo hG x2 (fun b c hb _ => by show b ≠ o; omega)
            (try refine pb_Ex.run rfl ?_)
            refine pb_Ex.fin (fun hf2 => ?_)
            refine pb_Ex.new 4 4 RX5 TX5 [pb_i 0, pb_i 0, pb_i 0, pb_i 0] rfl rfl rfl rfl (fun j hj => by
              have hj : j < 4 := hj
              match j, hj with
              | 0, _ => rfl
              | 1, _ => rfl
              | 2, _ => rfl
              | 3, _ => rfl) (by omega) (by omega) ?_
            refine pb_Ex.run rfl ?_
            refine pb_Ex.newI 0 rfl rfl (by omega) (by omega) (by omega) ?_
            have I0 := cs_I.st (nn := 0) hG hf hoG hbG P2 x2 K2 hf2
            obtain ⟨q, hq⟩ : ∃ q, q = h2.1 := ⟨_, rfl⟩
            rw [← hq] at I0
            show pb_Ex G _ _ _ _ _ _ _ _ _ [pb_r (h2.1 + 1), _, pb_r h2.1, pb_r h2.1] _
            rw [← hq]
            generalize pb_new (pb_new h2 (pb_ob 4 [pb_i 0, pb_i 0, pb_i 0, pb_i 0])) (pb_aI 0 0 fun _ => 0) = g0 at I0 ⊢
            (try refine pb_Ex.run rfl ?_)
            refine pb_Ex.cIo rfl rfl rfl rfl (op_init (by decide) I0.2.1 I0.2.2.1 (by omega)) (by omega) (by omega) (by omega) (fun h9 e9 => ?_)
            (try refine pb_Ex.run rfl ?_)
            refine pb_Ex.aret rfl rfl (by first | exact Or.inl ⟨_, rfl⟩ | exact Or.inr ⟨_, rfl⟩) (by omega) (by omega) (I0.fin e9 rfl rfl rfl rfl)
          · cases e
        · refine pb_Xx.out rfl (by omega) (by omega) ?_
          rcases hq with ⟨z1, z2, -⟩ | ⟨z1, z2⟩
          · cases z2
          · exact Or.inr ⟨z1, z2.tr x1⟩
      · rw [if_pos (show cq_pk g N p1 = 111 by omega)]
        refine pb_Ex.new 4 4 RX5 TX5 [pb_i 0, pb_i 0, pb_i 0, pb_i 0] rfl rfl rfl rfl (fun j hj => by
          have hj : j < 4 := hj
          match j, hj with
          | 0, _ => rfl
          | 1, _ => rfl
          | 2, _ => rfl
          | 3, _ => rfl) (by omega) (by omega) ?_
        refine pb_Ex.run rfl ?_
        refine pb_Ex.newI 1 rfl rfl (by omega) (by omega) (by omega) ?_
        have I0 := cs_I.st (nn := 1) hG hf hoG hbG P1 x1 K1 hf1
        obtain ⟨q, hq⟩ : ∃ q, q = h1.1 := ⟨_, rfl⟩
        rw [← hq] at I0
        show pb_Ex G _ _ _ _ _ _ _ _ _ [pb_r (h1.1 + 1), _, pb_r h1.1, pb_r h1.1] _
        rw [← hq]
        generalize pb_new (pb_new h1 (pb_ob 4 [pb_i 0, pb_i 0, pb_i 0, pb_i 0])) (pb_aI 0 1 fun _ => 0) = g0 at I0 ⊢
        (try refine pb_Ex.run rfl ?_)
        refine pb_Ex.ldcS rfl (hG.2.2.2.2.2.2 3 (12, 50, "ours ", [111, 117, 114, 115, 32]) rfl) ?_
        (try refine pb_Ex.run rfl ?_)
        rw [cq_adT]
        refine pb_Ex.csN (i := 3) (m := 3) (j := 0) I0 hG (by omega) (by omega) (by omega) rfl rfl rfl rfl rfl (by omega) (by omega) (by omega) (by omega) (fun w0 g1 I1 s0 => ?_) (fun w0 E q9 h9 hx9 => ?_)
        · rw [w0]
          (try refine pb_Ex.run rfl ?_)
          refine pb_Ex.cIo rfl rfl rfl rfl (op_init (by decide) I1.2.1 I1.2.2.1 (by omega)) (by omega) (by omega) (by omega) (fun h9 e9 => ?_)
          (try refine pb_Ex.run rfl ?_)
          refine pb_Ex.aret rfl rfl (by first | exact Or.inl ⟨_, rfl⟩ | exact Or.inr ⟨_, rfl⟩) (by omega) (by omega) (I1.fin e9 rfl rfl rfl rfl)
        · rw [w0]
          exact Or.inr ⟨rfl, hx9⟩
    · cases e
  · refine pb_Xx.out rfl (by omega) (by omega) ?_
    rcases hq with ⟨w1, w2, -⟩ | ⟨w1, w2⟩
    · cases w2
    · rw [if_neg (by rw [w1]; decide)]
      exact Or.inr ⟨rfl, w2⟩
theorem ps_cc (hG : co_G G K) (hK : co_W K h) (hP : ps_W h o a v N g p) (hoG : pb_b G ≤ o) (hbG : pb_b G ≤ h.1) : pb_Ctr G mX12_cargoOrCaulk 9 10 70 [pb_r o] h (cm_Q o a h (cq_cc g N p)) := by
  unfold cq_cc
  have hle := cq_ex_le (g := g) (i := 5) (by omega) hP.2.2.2
  refine pb_Ctr.of rfl rfl rfl tX12_cargoOrCaulk_ok rfl ?_
  (try refine pb_Ex.run rfl ?_)
  refine pb_Ex.fin (fun hf => ?_)
  refine pb_Ex.ldcS rfl (hG.2.2.2.2.2.2 5 (12, 61, "ca", [99, 97]) rfl) ?_
  (try refine pb_Ex.run rfl ?_)
  refine pb_Ex.cV rfl rfl rfl rfl hP.1 rfl rfl (ps_expect hG hK hP 5 (by omega)) ⟨by omega, by omega, by omega⟩ (fun vv h1 hq => ?_) (fun E q9 h1 hq => ?_)
  · rcases hq with ⟨w1, w2, w3, w4, w5⟩ | ⟨w1, q, r1, r2, e, -⟩
    · cases w2
      generalize cq_ex g N 5 p = r at *
      obtain ⟨p1, w⟩ := r
      dsimp only at w1 w4 hle ⊢
      subst w1
      have P1 : ps_W h1 o a v N g p1 := hP.mv w4 w5 hle
      have x1 : fr_P (fun b _ => b ≠ o) h h1 := ⟨by omega, fun b c hb hl => by rw [w5 b hl]; exact hb⟩
      have K1 : co_W K h1 := hK.lo hG x1 (fun b c hb _ => by show b ≠ o; omega)
      have rg := cq_rg P1
      rw [if_pos rfl]
      (try refine pb_Ex.run rfl ?_)
      refine pb_Ex.fin (fun hf1 => ?_)
      refine pb_Ex.pV rfl rfl rfl rfl (P1.1) rfl rfl (ps_peek hG P1) (by omega) (by omega) (by omega) ?_
      (try refine pb_Ex.run rfl ?_)
      refine pb_Ex.icmp_ne rfl (by omega) (by omega) (fun c => ?_) (fun c => ?_)
      · rw [if_neg (show ¬ cq_pk g N p1 = 117 by omega)]
        refine pb_Ex.new 4 4 RX5 TX5 [pb_i 0, pb_i 0, pb_i 0, pb_i 0] rfl rfl rfl rfl (fun j hj => by
          have hj : j < 4 := hj
          match j, hj with
          | 0, _ => rfl
          | 1, _ => rfl
          | 2, _ => rfl
          | 3, _ => rfl) (by omega) (by omega) ?_
        refine pb_Ex.run rfl ?_
        refine pb_Ex.newI 2 rfl rfl (by omega) (by omega) (by omega) ?_
        have I0 := cs_I.st (nn := 2) hG hf hoG hbG P1 x1 K1 hf1
        obtain ⟨q, hq⟩ : ∃ q, q = h1.1 := ⟨_, rfl⟩
        rw [← hq] at I0
        show pb_Ex G _ _ _ _ _ _ _ _ _ [pb_r (h1.1 + 1), _, pb_r h1.1, pb_r h1.1] _
        rw [← hq]
        generalize pb_new (pb_new h1 (pb_ob 4 [pb_i 0, pb_i 0, pb_i 0, pb_i 0])) (pb_aI 0 2 fun _ => 0) = g0 at I0 ⊢
        (try refine pb_Ex.run rfl ?_)
        refine pb_Ex.ldcS rfl (hG.2.2.2.2.2.2 8 (12, 67, "rgo ", [114, 103, 111, 32]) rfl) ?_
        (try refine pb_Ex.run rfl ?_)
        rw [cq_adT]
        refine pb_Ex.csN (i := 8) (m := 1) (j := 0) I0 hG (by omega) (by omega) (by omega) rfl rfl rfl rfl rfl (by omega) (by omega) (by omega) (by omega) (fun w0 g1 I1 s0 => ?_) (fun w0 E q9 h9 hx9 => ?_)
        · rw [w0]
          (try refine pb_Ex.run rfl ?_)
          refine pb_Ex.ldcS rfl (hG.2.2.2.2.2.2 7 (12, 65, " ", [32]) rfl) ?_
          (try refine pb_Ex.run rfl ?_)
          rw [cq_adT]
          refine pb_Ex.csN (i := 7) (m := 3) (j := 1) I1 hG (by omega) (by omega) (by omega) rfl rfl rfl rfl rfl (by omega) (by omega) (by omega) (by omega) (fun w1 g2 I2 s1 => ?_) (fun w1 E q9 h9 hx9 => ?_)
          · rw [w1]
            (try refine pb_Ex.run rfl ?_)
            refine pb_Ex.cIo rfl rfl rfl rfl (op_init (by decide) I2.2.1 I2.2.2.1 (by omega)) (by omega) (by omega) (by omega) (fun h9 e9 => ?_)
            (try refine pb_Ex.run rfl ?_)
            refine pb_Ex.aret rfl rfl (by first | exact Or.inl ⟨_, rfl⟩ | exact Or.inr ⟨_, rfl⟩) (by omega) (by omega) (I2.fin e9 rfl rfl rfl rfl)
          · rw [w1]
            exact Or.inr ⟨rfl, hx9⟩
        · rw [w0, cq_adF]
          exact Or.inr ⟨rfl, hx9⟩
      · rw [if_pos (show cq_pk g N p1 = 117 by omega)]
        refine pb_Ex.new 4 4 RX5 TX5 [pb_i 0, pb_i 0, pb_i 0, pb_i 0] rfl rfl rfl rfl (fun j hj => by
          have hj : j < 4 := hj
          match j, hj with
          | 0, _ => rfl
          | 1, _ => rfl
          | 2, _ => rfl
          | 3, _ => rfl) (by omega) (by omega) ?_
        refine pb_Ex.run rfl ?_
        refine pb_Ex.newI 2 rfl rfl (by omega) (by omega) (by omega) ?_
        have I0 := cs_I.st (nn := 2) hG hf hoG hbG P1 x1 K1 hf1
        obtain ⟨q, hq⟩ : ∃ q, q = h1.1 := ⟨_, rfl⟩
        rw [← hq] at I0
        show pb_Ex G _ _ _ _ _ _ _ _ _ [pb_r (h1.1 + 1), _, pb_r h1.1, pb_r h1.1] _
        rw [← hq]
        generalize pb_new (pb_new h1 (pb_ob 4 [pb_i 0, pb_i 0, pb_i 0, pb_i 0])) (pb_aI 0 2 fun _ => 0) = g0 at I0 ⊢
        (try refine pb_Ex.run rfl ?_)
        refine pb_Ex.ldcS rfl (hG.2.2.2.2.2.2 6 (12, 63, "ulk ", [117, 108, 107, 32]) rfl) ?_
        (try refine pb_Ex.run rfl ?_)
        rw [cq_adT]
        refine pb_Ex.csN (i := 6) (m := 1) (j := 0) I0 hG (by omega) (by omega) (by omega) rfl rfl rfl rfl rfl (by omega) (by omega) (by omega) (by omega) (fun w0 g1 I1 s0 => ?_) (fun w0 E q9 h9 hx9 => ?_)
        · rw [w0]
          (try refine pb_Ex.run rfl ?_)
          refine pb_Ex.ldcS rfl (hG.2.2.2.2.2.2 7 (12, 65, " ", [32]) rfl) ?_
          (try refine pb_Ex.run rfl ?_)
          rw [cq_adT]
          refine pb_Ex.csN (i := 7) (m := 1) (j := 1) I1 hG (by omega) (by omega) (by omega) rfl rfl rfl rfl rfl (by omega) (by omega) (by omega) (by omega) (fun w1 g2 I2 s1 => ?_) (fun w1 E q9 h9 hx9 => ?_)
          · rw [w1]
            (try refine pb_Ex.run rfl ?_)
            refine pb_Ex.cIo rfl rfl rfl rfl (op_init (by decide) I2.2.1 I2.2.2.1 (by omega)) (by omega) (by omega) (by omega) (fun h9 e9 => ?_)
            (try refine pb_Ex.run rfl ?_)
            refine pb_Ex.aret rfl rfl (by first | exact Or.inl ⟨_, rfl⟩ | exact Or.inr ⟨_, rfl⟩) (by omega) (by omega) (I2.fin e9 rfl rfl rfl rfl)
          · rw [w1]
            exact Or.inr ⟨rfl, hx9⟩
        · rw [w0, cq_adF]
          exact Or.inr ⟨rfl, hx9⟩
    · cases e
  · refine pb_Xx.out rfl (by omega) (by omega) ?_
    rcases hq with ⟨w1, w2, -⟩ | ⟨w1, w2⟩
    · cases w2
    · rw [if_neg (by rw [w1]; decide)]
      exact Or.inr ⟨rfl, w2⟩
theorem ps_command (hG : co_G G K) (hK : co_W K h) (hP : ps_W h o a v N g p) : pb_Ctr G mX12_command 11 10 70 [pb_r o] h (cm_Q o a h (cq_cmd g N p)) := by
  unfold cq_cmd
  have rg := cq_rg hP
  refine pb_Ctr.of rfl rfl rfl tX12_command_ok rfl ?_
  (try refine pb_Ex.run rfl ?_)
  refine pb_Ex.fin (fun hf => ?_)
  have hol := hf _ _ hP.1
  refine pb_Ex.own hP.1 rfl (fun hoG => ?_)
  refine pb_Ex.base (fun hbG => ?_)
  refine pb_Ex.pV rfl rfl rfl rfl (hP.1) rfl rfl (ps_peek hG hP) (by omega) (by omega) (by omega) ?_
  (try refine pb_Ex.run rfl ?_)
  have bad : pb_Ex G mX12_command 11 10 70 (cm_Q o a h (11, fun _ => 0, p, false)) 0 0 333 [some (pb_r o)] [] h := by
    refine pb_Ex.new 11 7 RX13 TX13 [pb_0, pb_0, pb_0, pb_0, pb_0, pb_i 0, pb_i 0] rfl rfl rfl rfl (fun j hj => by
      have hj : j < 7 := hj
      match j, hj with
      | 0, _ => rfl
      | 1, _ => rfl
      | 2, _ => rfl
      | 3, _ => rfl
      | 4, _ => rfl
      | 5, _ => rfl
      | 6, _ => rfl) (by omega) (by omega) ?_
    refine pb_Ex.run rfl ?_
    have nb : (pb_new h (pb_ob 11 [pb_0, pb_0, pb_0, pb_0, pb_0, pb_i 0, pb_i 0])).2 o = some (pb_ob 10 [pb_r a, pb_i p]) := by rw [pb_new_ne (by omega)]; exact hP.1
    refine pb_Ex.getf rfl rfl nb rfl ?_
    (try refine pb_Ex.run rfl ?_)
    refine pb_Ex.cIo rfl rfl rfl rfl (sy_init hG p pb_new_same) (by omega) (by omega) (by omega) (fun h3 e3 => ?_)
    obtain ⟨s3, ⟨r1, r2, b3⟩, x3⟩ := e3
    have s3 : h3.1 = h.1 + 1 := s3
    refine pb_Ex.athrow rfl (pb_obj_thr b3 rfl) (pb_Xx.out rfl (by omega) (by omega) (Or.inr ⟨rfl, _, r1, r2, rfl, b3, ⟨by omega, fun b c hb hl => ?_⟩⟩))
    have := hf b c hb
    rw [x3 b (by show b ≠ h.1; omega), pb_new_ne (by omega)]
    exact hb
  by_cases c104 : cq_pk g N p = 104
  · rw [if_pos c104, c104]
    refine pb_Ex.tswI 92 dX12_command_4 (by decide) (by decide) (by decide) (off := 88) (by decide) (by decide) ?_
    refine pb_Ex.run rfl ?_
    refine pb_Ex.cV rfl rfl rfl rfl hP.1 rfl rfl (ps_hh hG hK hP hoG hbG) ⟨by omega, by omega, by omega⟩ (fun vv h1 hq => ?_) (fun E q9 h1 hq => pb_Xx.out rfl (by omega) (by omega) hq)
    obtain ⟨q, rfl⟩ : ∃ q : Nat, vv = some (pb_r q) := by
      rcases hq with ⟨-, q, e, -⟩ | ⟨-, q, r1, r2, e, -⟩
      · cases e; exact ⟨_, rfl⟩
      · cases e
    (try refine pb_Ex.run rfl ?_)
    refine pb_Ex.aret rfl rfl (by first | exact Or.inl ⟨_, rfl⟩ | exact Or.inr ⟨_, rfl⟩) (by omega) (by omega) (hq)
  rw [if_neg c104]
  by_cases c102 : cq_pk g N p = 102
  · rw [if_pos c102, c102]
    refine pb_Ex.tswI 97 dX12_command_4 (by decide) (by decide) (by decide) (off := 93) (by decide) (by decide) ?_
    exact ps_c1 hG hK hP hf hoG hbG
  rw [if_neg c102]
  by_cases c109 : cq_pk g N p = 109
  · rw [if_pos c109, c109]
    refine pb_Ex.tswI 140 dX12_command_4 (by decide) (by decide) (by decide) (off := 136) (by decide) (by decide) ?_
    exact ps_c2 hG hK hP hf hoG hbG
  rw [if_neg c109]
  by_cases c99 : cq_pk g N p = 99
  · rw [if_pos c99, c99]
    refine pb_Ex.tswI 163 dX12_command_4 (by decide) (by decide) (by decide) (off := 159) (by decide) (by decide) ?_
    refine pb_Ex.run rfl ?_
    refine pb_Ex.cV rfl rfl rfl rfl hP.1 rfl rfl (ps_cc hG hK hP hoG hbG) ⟨by omega, by omega, by omega⟩ (fun vv h1 hq => ?_) (fun E q9 h1 hq => pb_Xx.out rfl (by omega) (by omega) hq)
    obtain ⟨q, rfl⟩ : ∃ q : Nat, vv = some (pb_r q) := by
      rcases hq with ⟨-, q, e, -⟩ | ⟨-, q, r1, r2, e, -⟩
      · cases e; exact ⟨_, rfl⟩
      · cases e
    (try refine pb_Ex.run rfl ?_)
    refine pb_Ex.aret rfl rfl (by first | exact Or.inl ⟨_, rfl⟩ | exact Or.inr ⟨_, rfl⟩) (by omega) (by omega) (hq)
  rw [if_neg c99]
  by_cases c108 : cq_pk g N p = 108
  · rw [if_pos c108, c108]
    refine pb_Ex.tswI 168 dX12_command_4 (by decide) (by decide) (by decide) (off := 164) (by decide) (by decide) ?_
    exact ps_c4 hG hK hP hf hoG hbG
  rw [if_neg c108]
  by_cases c112 : cq_pk g N p = 112
  · rw [if_pos c112, c112]
    refine pb_Ex.tswI 191 dX12_command_4 (by decide) (by decide) (by decide) (off := 187) (by decide) (by decide) ?_
    exact ps_c6 hG hK hP hf hoG hbG
  rw [if_neg c112]
  by_cases c116 : cq_pk g N p = 116
  · rw [if_pos c116, c116]
    refine pb_Ex.tswI 224 dX12_command_4 (by decide) (by decide) (by decide) (off := 220) (by decide) (by decide) ?_
    exact ps_c8 hG hK hP hf hoG hbG
  rw [if_neg c116]
  by_cases c111 : cq_pk g N p = 111
  · rw [if_pos c111, c111]
    refine pb_Ex.tswI 257 dX12_command_4 (by decide) (by decide) (by decide) (off := 253) (by decide) (by decide) ?_
    exact ps_c9 hG hK hP hf hoG hbG
  rw [if_neg c111]
  by_cases c100 : cq_pk g N p = 100
  · rw [if_pos c100, c100]
    refine pb_Ex.tswI 300 dX12_command_4 (by decide) (by decide) (by decide) (off := 296) (by decide) (by decide) ?_
    exact ps_c10 hG hK hP hf hoG hbG
  rw [if_neg c100]
  by_cases cl : cq_pk g N p < 99 ∨ 116 < cq_pk g N p
  · exact pb_Ex.tswO 333 dX12_command_4 (by omega) cl (by decide) bad
  · have cl2 : cq_pk g N p = 101 ∨ cq_pk g N p = 103 ∨ cq_pk g N p = 105 ∨ cq_pk g N p = 106 ∨ cq_pk g N p = 107 ∨ cq_pk g N p = 110 ∨ cq_pk g N p = 113 ∨ cq_pk g N p = 114 ∨ cq_pk g N p = 115 := by omega
    rcases cl2 with e | e | e | e | e | e | e | e | e <;> rw [e] <;> exact pb_Ex.tswI 333 dX12_command_4 (by decide) (by decide) (by decide) (off := 329) (by decide) (by decide) bad
end PARS4
