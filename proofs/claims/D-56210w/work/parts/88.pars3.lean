set_option maxRecDepth 100000
def cq_ad (g : Nat → Int) (N i m j : Nat) (s : (Nat → Int) × Nat × Bool) : (Nat → Int) × Nat × Bool := if s.2.2 = true then (va_up s.1 j (cq_nb g N i m s.2.1).1, (cq_nb g N i m s.2.1).2.1, (cq_nb g N i m s.2.1).2.2) else s
theorem cq_adT {g : Nat → Int} {N i m j p : Nat} {as : Nat → Int} : cq_ad g N i m j (as, p, true) = (va_up as j (cq_nb g N i m p).1, (cq_nb g N i m p).2.1, (cq_nb g N i m p).2.2) := rfl
theorem cq_adF {g : Nat → Int} {N i m j p : Nat} {as : Nat → Int} : cq_ad g N i m j (as, p, false) = (as, p, false) := rfl
/-- a command that is read: which, its numbers, where, whether it's well -/
abbrev cq_C : Type := Nat × (Nat → Int) × Nat × Bool
def cm_Q (o a : Nat) (h : pb_H) (c : cq_C) : pb_O → pb_H → Prop := fun oc h' => (c.2.2.2 = true ∧ ∃ q, oc = .inl (some (pb_r q)) ∧ h.1 ≤ q ∧ h'.2 q = some (pb_ob 4 [pb_i (op_c c.1), pb_i (c.2.1 0), pb_i (c.2.1 1), pb_i (c.2.1 2)]) ∧ h'.2 o = some (pb_ob 10 [pb_r a, pb_i c.2.2.1]) ∧ fr_P (fun b _ => b ≠ o) h h') ∨ (c.2.2.2 = false ∧ ps_X h o c.2.2.1 oc h')
section PARS3
variable {G : pb_G} {K : co_K} {h h1 : pb_H} {o a v N p q nn : Nat} {g as : Nat → Int}
theorem cs_I.st {h2 : pb_H} (hG : co_G G K) (hf : fr_fin h) (hoG : pb_b G ≤ o) (hbG : pb_b G ≤ h.1) (hP : ps_W h2 o a v N g p) (hx : fr_P (fun b _ => b ≠ o) h h2) (hK : co_W K h2) (hf2 : fr_fin h2) : cs_I G K h (pb_new (pb_new h2 (pb_ob 4 [pb_i 0, pb_i 0, pb_i 0, pb_i 0])) (pb_aI 0 nn fun _ => 0)) o a v N g h2.1 nn (fun _ => 0) p := by
  have hol := hf2 _ _ hP.1
  have x2 : fr_x h2 (pb_new (pb_new h2 (pb_ob 4 [pb_i 0, pb_i 0, pb_i 0, pb_i 0])) (pb_aI 0 nn fun _ => 0)) := (fr_x.rf.nw hf2 _).nw hf2 _
  have e1 : (pb_new h2 (pb_ob 4 [pb_i 0, pb_i 0, pb_i 0, pb_i 0])).1 = h2.1 + 1 := rfl
  have hh := hx.1
  refine ⟨⟨x2.at hP.1, hP.2.1.x x2, hP.2.2⟩, ?_, ?_, ⟨hx.1, ?_, by omega, by omega⟩, hx.tr x2.P, hK.x hG x2, hf, hoG, hbG⟩
  · rw [pb_new_ne (by omega)]; exact pb_new_same
  · rw [← e1]; exact pb_new_same
  · show h2.1 + 2 ≤ h2.1 + 1 + 1; omega
theorem cs_I.fin {k : Nat} {c : Int} {h9 : pb_H} (hI : cs_I G K h h1 o a v N g q nn as p) (e9 : h9.1 = h1.1 ∧ h9.2 q = some (pb_ob 4 [pb_i c, pb_i (if 0 < nn then as 0 else 0), pb_i (if 1 < nn then as 1 else 0), pb_i (if 2 < nn then as 2 else 0)]) ∧ ∀ x, x ≠ q → h9.2 x = h1.2 x) (hc : c = op_c k) (h0 : (if 0 < nn then as 0 else 0) = as 0) (h2 : (if 1 < nn then as 1 else 0) = as 1) (h3 : (if 2 < nn then as 2 else 0) = as 2) : cm_Q o a h (k, as, p, true) (.inl (some (pb_r q))) h9 := by
  obtain ⟨hP, hq, ha, ⟨l1, l2, l3, l4⟩, hx, hK, hf, hoG, hbG⟩ := hI
  obtain ⟨s1, s2, s3⟩ := e9
  rw [h0, h2, h3, hc] at s2
  refine Or.inl ⟨rfl, q, rfl, l1, s2, by rw [s3 _ (Ne.symm l3)]; exact hP.1, ⟨by have := hx.1; omega, fun b c hb hl => ?_⟩⟩
  have := hf b c hb
  rw [s3 b (by omega)]
  exact hx.2 b c hb hl
theorem ps_c1 (hG : co_G G K) (hK : co_W K h) (hP : ps_W h o a v N g p) (hf : fr_fin h) (hoG : pb_b G ≤ o) (hbG : pb_b G ≤ h.1) : pb_Ex G mX12_command 11 10 70 (cm_Q o a h (1, cq_ad g N 10 3 2 (cq_ad g N 7 3 1 (cq_ad g N 9 1 0 (fun _ => 0, p, true))))) 0 0 97 [some (pb_r o)] [] h := by
  refine pb_Ex.new 4 4 RX5 TX5 [pb_i 0, pb_i 0, pb_i 0, pb_i 0] rfl rfl rfl rfl (fun j hj => by
    have hj : j < 4 := hj
    match j, hj with
    | 0, _ => rfl
    | 1, _ => rfl
    | 2, _ => rfl
    | 3, _ => rfl) (by omega) (by omega) ?_
  refine pb_Ex.run rfl ?_
  refine pb_Ex.newI 3 rfl rfl (by omega) (by omega) (by omega) ?_
  have I0 := cs_I.st (nn := 3) hG hf hoG hbG hP fr_P.rf hK hf
  obtain ⟨q, hq⟩ : ∃ q, q = h.1 := ⟨_, rfl⟩
  rw [← hq] at I0
  show pb_Ex G _ _ _ _ _ _ _ _ _ [pb_r (h.1 + 1), _, pb_r h.1, pb_r h.1] _
  rw [← hq]
  generalize pb_new (pb_new h (pb_ob 4 [pb_i 0, pb_i 0, pb_i 0, pb_i 0])) (pb_aI 0 3 fun _ => 0) = g0 at I0 ⊢
  (try refine pb_Ex.run rfl ?_)
  refine pb_Ex.ldcS rfl (hG.2.2.2.2.2.2 9 (12, 73, "frame ", [102, 114, 97, 109, 101, 32]) rfl) ?_
  (try refine pb_Ex.run rfl ?_)
  rw [cq_adT]
  refine pb_Ex.csN (i := 9) (m := 1) (j := 0) I0 hG (by omega) (by omega) (by omega) rfl rfl rfl rfl rfl (by omega) (by omega) (by omega) (by omega) (fun w0 g1 I1 s0 => ?_) (fun w0 E q9 h9 hx9 => ?_)
  · rw [w0]
    (try refine pb_Ex.run rfl ?_)
    refine pb_Ex.ldcS rfl (hG.2.2.2.2.2.2 7 (12, 65, " ", [32]) rfl) ?_
    (try refine pb_Ex.run rfl ?_)
    rw [cq_adT]
    refine pb_Ex.csN (i := 7) (m := 3) (j := 1) I1 hG (by omega) (by omega) (by omega) rfl rfl rfl rfl rfl (by omega) (by omega) (by omega) (by omega) (fun w1 g2 I2 s1 => ?_) (fun w1 E q9 h9 hx9 => ?_)
    · rw [w1]
      (try refine pb_Ex.run rfl ?_)
      refine pb_Ex.ldcS rfl (hG.2.2.2.2.2.2 10 (12, 75, "/", [47]) rfl) ?_
      (try refine pb_Ex.run rfl ?_)
      rw [cq_adT]
      refine pb_Ex.csN (i := 10) (m := 3) (j := 2) I2 hG (by omega) (by omega) (by omega) rfl rfl rfl rfl rfl (by omega) (by omega) (by omega) (by omega) (fun w2 g3 I3 s2 => ?_) (fun w2 E q9 h9 hx9 => ?_)
      · rw [w2]
        (try refine pb_Ex.run rfl ?_)
        refine pb_Ex.cIo rfl rfl rfl rfl (op_init (by decide) I3.2.1 I3.2.2.1 (by omega)) (by omega) (by omega) (by omega) (fun h9 e9 => ?_)
        (try refine pb_Ex.run rfl ?_)
        refine pb_Ex.aret rfl rfl (by first | exact Or.inl ⟨_, rfl⟩ | exact Or.inr ⟨_, rfl⟩) (by omega) (by omega) (I3.fin e9 rfl rfl rfl rfl)
      · rw [w2]
        exact Or.inr ⟨rfl, hx9⟩
    · rw [w1, cq_adF]
      exact Or.inr ⟨rfl, hx9⟩
  · rw [w0, cq_adF, cq_adF]
    exact Or.inr ⟨rfl, hx9⟩
theorem ps_c2 (hG : co_G G K) (hK : co_W K h) (hP : ps_W h o a v N g p) (hf : fr_fin h) (hoG : pb_b G ≤ o) (hbG : pb_b G ≤ h.1) : pb_Ex G mX12_command 11 10 70 (cm_Q o a h (2, cq_ad g N 11 1 0 (fun _ => 0, p, true))) 0 0 140 [some (pb_r o)] [] h := by
  refine pb_Ex.new 4 4 RX5 TX5 [pb_i 0, pb_i 0, pb_i 0, pb_i 0] rfl rfl rfl rfl (fun j hj => by
    have hj : j < 4 := hj
    match j, hj with
    | 0, _ => rfl
    | 1, _ => rfl
    | 2, _ => rfl
    | 3, _ => rfl) (by omega) (by omega) ?_
  refine pb_Ex.run rfl ?_
  refine pb_Ex.newI 1 rfl rfl (by omega) (by omega) (by omega) ?_
  have I0 := cs_I.st (nn := 1) hG hf hoG hbG hP fr_P.rf hK hf
  obtain ⟨q, hq⟩ : ∃ q, q = h.1 := ⟨_, rfl⟩
  rw [← hq] at I0
  show pb_Ex G _ _ _ _ _ _ _ _ _ [pb_r (h.1 + 1), _, pb_r h.1, pb_r h.1] _
  rw [← hq]
  generalize pb_new (pb_new h (pb_ob 4 [pb_i 0, pb_i 0, pb_i 0, pb_i 0])) (pb_aI 0 1 fun _ => 0) = g0 at I0 ⊢
  (try refine pb_Ex.run rfl ?_)
  refine pb_Ex.ldcS rfl (hG.2.2.2.2.2.2 11 (12, 77, "mirror ", [109, 105, 114, 114, 111, 114, 32]) rfl) ?_
  (try refine pb_Ex.run rfl ?_)
  rw [cq_adT]
  refine pb_Ex.csN (i := 11) (m := 1) (j := 0) I0 hG (by omega) (by omega) (by omega) rfl rfl rfl rfl rfl (by omega) (by omega) (by omega) (by omega) (fun w0 g1 I1 s0 => ?_) (fun w0 E q9 h9 hx9 => ?_)
  · rw [w0]
    (try refine pb_Ex.run rfl ?_)
    refine pb_Ex.cIo rfl rfl rfl rfl (op_init (by decide) I1.2.1 I1.2.2.1 (by omega)) (by omega) (by omega) (by omega) (fun h9 e9 => ?_)
    (try refine pb_Ex.run rfl ?_)
    refine pb_Ex.aret rfl rfl (by first | exact Or.inl ⟨_, rfl⟩ | exact Or.inr ⟨_, rfl⟩) (by omega) (by omega) (I1.fin e9 rfl rfl rfl rfl)
  · rw [w0]
    exact Or.inr ⟨rfl, hx9⟩
theorem ps_c4 (hG : co_G G K) (hK : co_W K h) (hP : ps_W h o a v N g p) (hf : fr_fin h) (hoG : pb_b G ≤ o) (hbG : pb_b G ≤ h.1) : pb_Ex G mX12_command 11 10 70 (cm_Q o a h (4, cq_ad g N 12 1 0 (fun _ => 0, p, true))) 0 0 168 [some (pb_r o)] [] h := by
  refine pb_Ex.new 4 4 RX5 TX5 [pb_i 0, pb_i 0, pb_i 0, pb_i 0] rfl rfl rfl rfl (fun j hj => by
    have hj : j < 4 := hj
    match j, hj with
    | 0, _ => rfl
    | 1, _ => rfl
    | 2, _ => rfl
    | 3, _ => rfl) (by omega) (by omega) ?_
  refine pb_Ex.run rfl ?_
  refine pb_Ex.newI 1 rfl rfl (by omega) (by omega) (by omega) ?_
  have I0 := cs_I.st (nn := 1) hG hf hoG hbG hP fr_P.rf hK hf
  obtain ⟨q, hq⟩ : ∃ q, q = h.1 := ⟨_, rfl⟩
  rw [← hq] at I0
  show pb_Ex G _ _ _ _ _ _ _ _ _ [pb_r (h.1 + 1), _, pb_r h.1, pb_r h.1] _
  rw [← hq]
  generalize pb_new (pb_new h (pb_ob 4 [pb_i 0, pb_i 0, pb_i 0, pb_i 0])) (pb_aI 0 1 fun _ => 0) = g0 at I0 ⊢
  (try refine pb_Ex.run rfl ?_)
  refine pb_Ex.ldcS rfl (hG.2.2.2.2.2.2 12 (12, 82, "launch ", [108, 97, 117, 110, 99, 104, 32]) rfl) ?_
  (try refine pb_Ex.run rfl ?_)
  rw [cq_adT]
  refine pb_Ex.csN (i := 12) (m := 1) (j := 0) I0 hG (by omega) (by omega) (by omega) rfl rfl rfl rfl rfl (by omega) (by omega) (by omega) (by omega) (fun w0 g1 I1 s0 => ?_) (fun w0 E q9 h9 hx9 => ?_)
  · rw [w0]
    (try refine pb_Ex.run rfl ?_)
    refine pb_Ex.cIo rfl rfl rfl rfl (op_init (by decide) I1.2.1 I1.2.2.1 (by omega)) (by omega) (by omega) (by omega) (fun h9 e9 => ?_)
    (try refine pb_Ex.run rfl ?_)
    refine pb_Ex.aret rfl rfl (by first | exact Or.inl ⟨_, rfl⟩ | exact Or.inr ⟨_, rfl⟩) (by omega) (by omega) (I1.fin e9 rfl rfl rfl rfl)
  · rw [w0]
    exact Or.inr ⟨rfl, hx9⟩
theorem ps_c6 (hG : co_G G K) (hK : co_W K h) (hP : ps_W h o a v N g p) (hf : fr_fin h) (hoG : pb_b G ≤ o) (hbG : pb_b G ≤ h.1) : pb_Ex G mX12_command 11 10 70 (cm_Q o a h (6, cq_ad g N 7 3 1 (cq_ad g N 13 1 0 (fun _ => 0, p, true)))) 0 0 191 [some (pb_r o)] [] h := by
  refine pb_Ex.new 4 4 RX5 TX5 [pb_i 0, pb_i 0, pb_i 0, pb_i 0] rfl rfl rfl rfl (fun j hj => by
    have hj : j < 4 := hj
    match j, hj with
    | 0, _ => rfl
    | 1, _ => rfl
    | 2, _ => rfl
    | 3, _ => rfl) (by omega) (by omega) ?_
  refine pb_Ex.run rfl ?_
  refine pb_Ex.newI 2 rfl rfl (by omega) (by omega) (by omega) ?_
  have I0 := cs_I.st (nn := 2) hG hf hoG hbG hP fr_P.rf hK hf
  obtain ⟨q, hq⟩ : ∃ q, q = h.1 := ⟨_, rfl⟩
  rw [← hq] at I0
  show pb_Ex G _ _ _ _ _ _ _ _ _ [pb_r (h.1 + 1), _, pb_r h.1, pb_r h.1] _
  rw [← hq]
  generalize pb_new (pb_new h (pb_ob 4 [pb_i 0, pb_i 0, pb_i 0, pb_i 0])) (pb_aI 0 2 fun _ => 0) = g0 at I0 ⊢
  (try refine pb_Ex.run rfl ?_)
  refine pb_Ex.ldcS rfl (hG.2.2.2.2.2.2 13 (12, 84, "pump ", [112, 117, 109, 112, 32]) rfl) ?_
  (try refine pb_Ex.run rfl ?_)
  rw [cq_adT]
  refine pb_Ex.csN (i := 13) (m := 1) (j := 0) I0 hG (by omega) (by omega) (by omega) rfl rfl rfl rfl rfl (by omega) (by omega) (by omega) (by omega) (fun w0 g1 I1 s0 => ?_) (fun w0 E q9 h9 hx9 => ?_)
  · rw [w0]
    (try refine pb_Ex.run rfl ?_)
    refine pb_Ex.ldcS rfl (hG.2.2.2.2.2.2 7 (12, 65, " ", [32]) rfl) ?_
    (try refine pb_Ex.run rfl ?_)
    rw [cq_adT]
    refine pb_Ex.csN (i := 7) (m := 3) (j := 1) I1 hG (by omega) (by omega) (by omega) rfl rfl rfl rfl rfl (by omega) (by omega) (by omega) (by omega) (fun w1 g2 I2 s1 => ?_) (fun w1 E q9 h9 hx9 => ?_)
    · rw [w1]
      (try refine pb_Ex.run rfl ?_)
      refine pb_Ex.cIo rfl rfl rfl rfl (op_init (by decide) I2.2.1 I2.2.2.1 (by omega)) (by omega) (by omega) (by omega) (fun h9 e9 => ?_)
      (try refine pb_Ex.run rfl ?_)
      refine pb_Ex.aret rfl rfl (by first | exact Or.inl ⟨_, rfl⟩ | exact Or.inr ⟨_, rfl⟩) (by omega) (by omega) (I2.fin e9 rfl rfl rfl rfl)
    · rw [w1]
      exact Or.inr ⟨rfl, hx9⟩
  · rw [w0, cq_adF]
    exact Or.inr ⟨rfl, hx9⟩
theorem ps_c8 (hG : co_G G K) (hK : co_W K h) (hP : ps_W h o a v N g p) (hf : fr_fin h) (hoG : pb_b G ≤ o) (hbG : pb_b G ≤ h.1) : pb_Ex G mX12_command 11 10 70 (cm_Q o a h (8, cq_ad g N 7 3 1 (cq_ad g N 14 3 0 (fun _ => 0, p, true)))) 0 0 224 [some (pb_r o)] [] h := by
  refine pb_Ex.new 4 4 RX5 TX5 [pb_i 0, pb_i 0, pb_i 0, pb_i 0] rfl rfl rfl rfl (fun j hj => by
    have hj : j < 4 := hj
    match j, hj with
    | 0, _ => rfl
    | 1, _ => rfl
    | 2, _ => rfl
    | 3, _ => rfl) (by omega) (by omega) ?_
  refine pb_Ex.run rfl ?_
  refine pb_Ex.newI 2 rfl rfl (by omega) (by omega) (by omega) ?_
  have I0 := cs_I.st (nn := 2) hG hf hoG hbG hP fr_P.rf hK hf
  obtain ⟨q, hq⟩ : ∃ q, q = h.1 := ⟨_, rfl⟩
  rw [← hq] at I0
  show pb_Ex G _ _ _ _ _ _ _ _ _ [pb_r (h.1 + 1), _, pb_r h.1, pb_r h.1] _
  rw [← hq]
  generalize pb_new (pb_new h (pb_ob 4 [pb_i 0, pb_i 0, pb_i 0, pb_i 0])) (pb_aI 0 2 fun _ => 0) = g0 at I0 ⊢
  (try refine pb_Ex.run rfl ?_)
  refine pb_Ex.ldcS rfl (hG.2.2.2.2.2.2 14 (12, 86, "tide ", [116, 105, 100, 101, 32]) rfl) ?_
  (try refine pb_Ex.run rfl ?_)
  rw [cq_adT]
  refine pb_Ex.csN (i := 14) (m := 3) (j := 0) I0 hG (by omega) (by omega) (by omega) rfl rfl rfl rfl rfl (by omega) (by omega) (by omega) (by omega) (fun w0 g1 I1 s0 => ?_) (fun w0 E q9 h9 hx9 => ?_)
  · rw [w0]
    (try refine pb_Ex.run rfl ?_)
    refine pb_Ex.ldcS rfl (hG.2.2.2.2.2.2 7 (12, 65, " ", [32]) rfl) ?_
    (try refine pb_Ex.run rfl ?_)
    rw [cq_adT]
    refine pb_Ex.csN (i := 7) (m := 3) (j := 1) I1 hG (by omega) (by omega) (by omega) rfl rfl rfl rfl rfl (by omega) (by omega) (by omega) (by omega) (fun w1 g2 I2 s1 => ?_) (fun w1 E q9 h9 hx9 => ?_)
    · rw [w1]
      (try refine pb_Ex.run rfl ?_)
      refine pb_Ex.cIo rfl rfl rfl rfl (op_init (by decide) I2.2.1 I2.2.2.1 (by omega)) (by omega) (by omega) (by omega) (fun h9 e9 => ?_)
      (try refine pb_Ex.run rfl ?_)
      refine pb_Ex.aret rfl rfl (by first | exact Or.inl ⟨_, rfl⟩ | exact Or.inr ⟨_, rfl⟩) (by omega) (by omega) (I2.fin e9 rfl rfl rfl rfl)
    · rw [w1]
      exact Or.inr ⟨rfl, hx9⟩
  · rw [w0, cq_adF]
    exact Or.inr ⟨rfl, hx9⟩
theorem ps_c9 (hG : co_G G K) (hK : co_W K h) (hP : ps_W h o a v N g p) (hf : fr_fin h) (hoG : pb_b G ≤ o) (hbG : pb_b G ≤ h.1) : pb_Ex G mX12_command 11 10 70 (cm_Q o a h (9, cq_ad g N 7 3 2 (cq_ad g N 7 3 1 (cq_ad g N 15 1 0 (fun _ => 0, p, true))))) 0 0 257 [some (pb_r o)] [] h := by
  refine pb_Ex.new 4 4 RX5 TX5 [pb_i 0, pb_i 0, pb_i 0, pb_i 0] rfl rfl rfl rfl (fun j hj => by
    have hj : j < 4 := hj
    match j, hj with
    | 0, _ => rfl
    | 1, _ => rfl
    | 2, _ => rfl
    | 3, _ => rfl) (by omega) (by omega) ?_
  refine pb_Ex.run rfl ?_
  refine pb_Ex.newI 3 rfl rfl (by omega) (by omega) (by omega) ?_
  have I0 := cs_I.st (nn := 3) hG hf hoG hbG hP fr_P.rf hK hf
  obtain ⟨q, hq⟩ : ∃ q, q = h.1 := ⟨_, rfl⟩
  rw [← hq] at I0
  show pb_Ex G _ _ _ _ _ _ _ _ _ [pb_r (h.1 + 1), _, pb_r h.1, pb_r h.1] _
  rw [← hq]
  generalize pb_new (pb_new h (pb_ob 4 [pb_i 0, pb_i 0, pb_i 0, pb_i 0])) (pb_aI 0 3 fun _ => 0) = g0 at I0 ⊢
  (try refine pb_Ex.run rfl ?_)
  refine pb_Ex.ldcS rfl (hG.2.2.2.2.2.2 15 (12, 88, "order ", [111, 114, 100, 101, 114, 32]) rfl) ?_
  (try refine pb_Ex.run rfl ?_)
  rw [cq_adT]
  refine pb_Ex.csN (i := 15) (m := 1) (j := 0) I0 hG (by omega) (by omega) (by omega) rfl rfl rfl rfl rfl (by omega) (by omega) (by omega) (by omega) (fun w0 g1 I1 s0 => ?_) (fun w0 E q9 h9 hx9 => ?_)
  · rw [w0]
    (try refine pb_Ex.run rfl ?_)
    refine pb_Ex.ldcS rfl (hG.2.2.2.2.2.2 7 (12, 65, " ", [32]) rfl) ?_
    (try refine pb_Ex.run rfl ?_)
    rw [cq_adT]
    refine pb_Ex.csN (i := 7) (m := 3) (j := 1) I1 hG (by omega) (by omega) (by omega) rfl rfl rfl rfl rfl (by omega) (by omega) (by omega) (by omega) (fun w1 g2 I2 s1 => ?_) (fun w1 E q9 h9 hx9 => ?_)
    · rw [w1]
      (try refine pb_Ex.run rfl ?_)
      refine pb_Ex.ldcS rfl (hG.2.2.2.2.2.2 7 (12, 65, " ", [32]) rfl) ?_
      (try refine pb_Ex.run rfl ?_)
      rw [cq_adT]
      refine pb_Ex.csN (i := 7) (m := 3) (j := 2) I2 hG (by omega) (by omega) (by omega) rfl rfl rfl rfl rfl (by omega) (by omega) (by omega) (by omega) (fun w2 g3 I3 s2 => ?_) (fun w2 E q9 h9 hx9 => ?_)
      · rw [w2]
        (try refine pb_Ex.run rfl ?_)
        refine pb_Ex.cIo rfl rfl rfl rfl (op_init (by decide) I3.2.1 I3.2.2.1 (by omega)) (by omega) (by omega) (by omega) (fun h9 e9 => ?_)
        (try refine pb_Ex.run rfl ?_)
        refine pb_Ex.aret rfl rfl (by first | exact Or.inl ⟨_, rfl⟩ | exact Or.inr ⟨_, rfl⟩) (by omega) (by omega) (I3.fin e9 rfl rfl rfl rfl)
      · rw [w2]
        exact Or.inr ⟨rfl, hx9⟩
    · rw [w1, cq_adF]
      exact Or.inr ⟨rfl, hx9⟩
  · rw [w0, cq_adF, cq_adF]
    exact Or.inr ⟨rfl, hx9⟩
theorem ps_c10 (hG : co_G G K) (hK : co_W K h) (hP : ps_W h o a v N g p) (hf : fr_fin h) (hoG : pb_b G ≤ o) (hbG : pb_b G ≤ h.1) : pb_Ex G mX12_command 11 10 70 (cm_Q o a h (10, cq_ad g N 7 1 1 (cq_ad g N 16 3 0 (fun _ => 0, p, true)))) 0 0 300 [some (pb_r o)] [] h := by
  refine pb_Ex.new 4 4 RX5 TX5 [pb_i 0, pb_i 0, pb_i 0, pb_i 0] rfl rfl rfl rfl (fun j hj => by
    have hj : j < 4 := hj
    match j, hj with
    | 0, _ => rfl
    | 1, _ => rfl
    | 2, _ => rfl
    | 3, _ => rfl) (by omega) (by omega) ?_
  refine pb_Ex.run rfl ?_
  refine pb_Ex.newI 2 rfl rfl (by omega) (by omega) (by omega) ?_
  have I0 := cs_I.st (nn := 2) hG hf hoG hbG hP fr_P.rf hK hf
  obtain ⟨q, hq⟩ : ∃ q, q = h.1 := ⟨_, rfl⟩
  rw [← hq] at I0
  show pb_Ex G _ _ _ _ _ _ _ _ _ [pb_r (h.1 + 1), _, pb_r h.1, pb_r h.1] _
  rw [← hq]
  generalize pb_new (pb_new h (pb_ob 4 [pb_i 0, pb_i 0, pb_i 0, pb_i 0])) (pb_aI 0 2 fun _ => 0) = g0 at I0 ⊢
  (try refine pb_Ex.run rfl ?_)
  refine pb_Ex.ldcS rfl (hG.2.2.2.2.2.2 16 (12, 90, "deliver ", [100, 101, 108, 105, 118, 101, 114, 32]) rfl) ?_
  (try refine pb_Ex.run rfl ?_)
  rw [cq_adT]
  refine pb_Ex.csN (i := 16) (m := 3) (j := 0) I0 hG (by omega) (by omega) (by omega) rfl rfl rfl rfl rfl (by omega) (by omega) (by omega) (by omega) (fun w0 g1 I1 s0 => ?_) (fun w0 E q9 h9 hx9 => ?_)
  · rw [w0]
    (try refine pb_Ex.run rfl ?_)
    refine pb_Ex.ldcS rfl (hG.2.2.2.2.2.2 7 (12, 65, " ", [32]) rfl) ?_
    (try refine pb_Ex.run rfl ?_)
    rw [cq_adT]
    refine pb_Ex.csN (i := 7) (m := 1) (j := 1) I1 hG (by omega) (by omega) (by omega) rfl rfl rfl rfl rfl (by omega) (by omega) (by omega) (by omega) (fun w1 g2 I2 s1 => ?_) (fun w1 E q9 h9 hx9 => ?_)
    · rw [w1]
      (try refine pb_Ex.run rfl ?_)
      refine pb_Ex.cIo rfl rfl rfl rfl (op_init (by decide) I2.2.1 I2.2.2.1 (by omega)) (by omega) (by omega) (by omega) (fun h9 e9 => ?_)
      (try refine pb_Ex.run rfl ?_)
      refine pb_Ex.aret rfl rfl (by first | exact Or.inl ⟨_, rfl⟩ | exact Or.inr ⟨_, rfl⟩) (by omega) (by omega) (I2.fin e9 rfl rfl rfl rfl)
    · rw [w1]
      exact Or.inr ⟨rfl, hx9⟩
  · rw [w0, cq_adF]
    exact Or.inr ⟨rfl, hx9⟩
end PARS3
