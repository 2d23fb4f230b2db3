set_option maxRecDepth 100000
/-! THE USE's MODIFICATIONS (printed by mk_ops.py) -/
/-- a new operation and its numbers -/
def no_I (h g : pb_H) (N : Nat) (v : Nat → Int) : Prop := fr_x h g ∧ h.1 + 2 ≤ g.1 ∧ g.2 h.1 = some (pb_ob 4 [pb_i 0, pb_i 0, pb_i 0, pb_i 0]) ∧ g.2 (h.1 + 1) = some (pb_aI 0 N v)
theorem no_I.st {h : pb_H} (hf : fr_fin h) (N : Nat) : no_I h (pb_new (pb_new h (pb_ob 4 [pb_i 0, pb_i 0, pb_i 0, pb_i 0])) (pb_aI 0 N (fun _ => 0))) N (fun _ => 0) :=
  ⟨(fr_x.rf.nw hf _).nw hf _, Nat.le_refl _, (pb_new_ne (by show h.1 ≠ h.1 + 1; omega)).trans pb_new_same, pb_new_same⟩
theorem no_I.up {h g : pb_H} {N : Nat} {v : Nat → Int} (hf : fr_fin h) (h1 : no_I h g N v) (i : Nat) (z : Int) : no_I h (pb_set g (h.1 + 1) (pb_aI 0 N (va_up v i z))) N (va_up v i z) :=
  ⟨h1.1.st hf _ (Nat.le_succ _), h1.2.1, (pb_set_ne (by omega)).trans h1.2.2.1, pb_set_same⟩
section OPSX
variable {G : pb_G} {K : co_K} {h h' : pb_H} {o : Nat} {x : Nat → Int} {F : Nat → Nat → Int} {t : Nat}
theorem bo_mQ.pre {h0 : pb_H} {ex : Int → String} {r : Int × Int × (Nat → Int)} {w : Int} {oc : pb_O} (x1 : fr_x h0 h) (q : bo_mQ G K h o x F ex r w oc h') : bo_mQ G K h0 o x F ex r w oc h' := ⟨(x1.P).tr q.1, q.2⟩
theorem bo_mQ.int {ex : Int → String} {r : Int × Int × (Nat → Int)} {w : Int} {v : Option pb_V} (q : bo_mQ G K h o x F ex r w (.inl v) h') : ∃ z : Int, v = some (pb_i z) := by
  rcases q.2 with ⟨-, e, -⟩ | ⟨-, ⟨q9, e⟩, -⟩
  · cases e; exact ⟨_, rfl⟩
  · cases e
theorem bo_beginHull (hG : co_G G K) (hK : co_W K h) (hU : bo_W G K h o x F) (ok : bo_ok t x F) (ht : t + 99 ≤ 200000) (hD : ∀ z, h.1 ≤ z → co_D K z) : pb_Ctr G mX1_beginHull 20 20000 40000 [pb_r o] h (bo_mQ G K h o x F (mo_exu 0) (op_sp (F 0) 0 0 0 0) (op_w (F 0) 0 0)) := by
  have hU' := hU
  obtain ⟨A, S, Y, B, u1, -⟩ := hU'
  refine pb_Ctr.of rfl rfl rfl tX1_beginHull_ok rfl ?_
  (try refine pb_Ex.run rfl ?_)
  refine pb_Ex.fin (fun hf => ?_)
  refine pb_Ex.new 4 4 RX5 TX5 [pb_i 0, pb_i 0, pb_i 0, pb_i 0] rfl rfl rfl rfl (fun j hj => by
    have hj : j < 4 := hj
    match j, hj with
    | 0, _ => rfl
    | 1, _ => rfl
    | 2, _ => rfl
    | 3, _ => rfl) (by omega) (by omega) ?_
  refine pb_Ex.run rfl ?_
  refine pb_Ex.newI 0 rfl rfl (by omega) (by omega) (by omega) ?_
  have I0 := no_I.st hf 0
  show pb_Ex G _ _ _ _ _ _ _ _ _ (pb_r (h.1 + 1) :: _) _
  generalize pb_new (pb_new h (pb_ob 4 [pb_i 0, pb_i 0, pb_i 0, pb_i 0])) (pb_aI 0 0 fun _ => 0) = g0 at I0 ⊢
  (try refine pb_Ex.run rfl ?_)
  obtain ⟨x2, s2, b1, b2⟩ := I0
  refine pb_Ex.cIo rfl rfl rfl rfl (op_init (by decide) b1 b2 (by omega)) (by omega) (by omega) (by omega) (fun h3 e3 => ?_)
  obtain ⟨s3, o3, k3⟩ := e3
  (try refine pb_Ex.run rfl ?_)
  have x3 : fr_x h h3 := ⟨by omega, fun b c hb _ => by rw [k3 b (by have := hf b c hb; omega)]; exact x2.at hb⟩
  have o3' : h3.2 h.1 = some (pb_ob 4 [pb_i (op_c 0), pb_i 0, pb_i 0, pb_i 0]) := o3
  refine pb_Ex.cVW rfl rfl rfl rfl (x3.at u1) rfl rfl (bo_modify hG (hK.x hG x3) (hU.x x3) ok ht (fun z hz => hD z (by have := x3.1; omega)) 0 (by omega) (by omega) (by omega) (by omega) o3') ⟨by omega, by omega, by omega⟩ (fun v h4 hq => ?_) (fun E q h4 hq => pb_Xx.out rfl (by omega) (by omega) (hq.pre x3))
  have hq2 := hq.pre x3
  obtain ⟨v', rfl⟩ := hq2.int
  (try refine pb_Ex.run rfl ?_)
  refine pb_Ex.iret rfl rfl (by omega) (by omega) (hq2)
theorem bo_addFrame (hG : co_G G K) (hK : co_W K h) (hU : bo_W G K h o x F) (ok : bo_ok t x F) (ht : t + 99 ≤ 200000) (hD : ∀ z, h.1 ≤ z → co_D K z) (a : Int) (ha : pb_rg a) (b : Int) (hb : pb_rg b) (c : Int) (hc : pb_rg c) : pb_Ctr G mX1_addFrame 20 20000 40000 [pb_r o, pb_i a, pb_i b, pb_i c] h (bo_mQ G K h o x F (mo_exu 1) (op_sp (F 0) 1 a b c) (op_w (F 0) 1 a)) := by
  have hU' := hU
  obtain ⟨A, S, Y, B, u1, -⟩ := hU'
  refine pb_Ctr.of rfl rfl rfl tX1_addFrame_ok rfl ?_
  (try refine pb_Ex.run rfl ?_)
  refine pb_Ex.fin (fun hf => ?_)
  refine pb_Ex.new 4 4 RX5 TX5 [pb_i 0, pb_i 0, pb_i 0, pb_i 0] rfl rfl rfl rfl (fun j hj => by
    have hj : j < 4 := hj
    match j, hj with
    | 0, _ => rfl
    | 1, _ => rfl
    | 2, _ => rfl
    | 3, _ => rfl) (by omega) (by omega) ?_
  refine pb_Ex.run rfl ?_
  refine pb_Ex.newI 3 rfl rfl (by omega) (by omega) (by omega) ?_
  have I0 := no_I.st hf 3
  show pb_Ex G _ _ _ _ _ _ _ _ _ (pb_r (h.1 + 1) :: _) _
  generalize pb_new (pb_new h (pb_ob 4 [pb_i 0, pb_i 0, pb_i 0, pb_i 0])) (pb_aI 0 3 fun _ => 0) = g0 at I0 ⊢
  (try refine pb_Ex.run rfl ?_)
  refine pb_Ex.istat (0) rfl (I0.2.2.2) (by omega) (by omega) ?_
  (try refine pb_Ex.run rfl ?_)
  have I1 := I0.up hf 0 a
  generalize pb_set g0 (h.1 + 1) _ = g1 at I1 ⊢
  refine pb_Ex.istat (1) rfl (I1.2.2.2) (by omega) (by omega) ?_
  (try refine pb_Ex.run rfl ?_)
  have I2 := I1.up hf 1 b
  generalize pb_set g1 (h.1 + 1) _ = g2 at I2 ⊢
  refine pb_Ex.istat (2) rfl (I2.2.2.2) (by omega) (by omega) ?_
  (try refine pb_Ex.run rfl ?_)
  have I3 := I2.up hf 2 c
  generalize pb_set g2 (h.1 + 1) _ = g3 at I3 ⊢
  obtain ⟨x2, s2, b1, b2⟩ := I3
  refine pb_Ex.cIo rfl rfl rfl rfl (op_init (by decide) b1 b2 (by omega)) (by omega) (by omega) (by omega) (fun h3 e3 => ?_)
  obtain ⟨s3, o3, k3⟩ := e3
  (try refine pb_Ex.run rfl ?_)
  have x3 : fr_x h h3 := ⟨by omega, fun b c hb _ => by rw [k3 b (by have := hf b c hb; omega)]; exact x2.at hb⟩
  have o3' : h3.2 h.1 = some (pb_ob 4 [pb_i (op_c 1), pb_i a, pb_i b, pb_i c]) := o3
  refine pb_Ex.cVW rfl rfl rfl rfl (x3.at u1) rfl rfl (bo_modify hG (hK.x hG x3) (hU.x x3) ok ht (fun z hz => hD z (by have := x3.1; omega)) 1 (by omega) ha hb hc o3') ⟨by omega, by omega, by omega⟩ (fun v h4 hq => ?_) (fun E q h4 hq => pb_Xx.out rfl (by omega) (by omega) (hq.pre x3))
  have hq2 := hq.pre x3
  obtain ⟨v', rfl⟩ := hq2.int
  (try refine pb_Ex.run rfl ?_)
  refine pb_Ex.iret rfl rfl (by omega) (by omega) (hq2)
theorem bo_mirror (hG : co_G G K) (hK : co_W K h) (hU : bo_W G K h o x F) (ok : bo_ok t x F) (ht : t + 99 ≤ 200000) (hD : ∀ z, h.1 ≤ z → co_D K z) (a : Int) (ha : pb_rg a) : pb_Ctr G mX1_mirror 20 20000 40000 [pb_r o, pb_i a] h (bo_mQ G K h o x F (mo_exu 2) (op_sp (F 0) 2 a 0 0) (op_w (F 0) 2 a)) := by
  have hU' := hU
  obtain ⟨A, S, Y, B, u1, -⟩ := hU'
  refine pb_Ctr.of rfl rfl rfl tX1_mirror_ok rfl ?_
  (try refine pb_Ex.run rfl ?_)
  refine pb_Ex.fin (fun hf => ?_)
  refine pb_Ex.new 4 4 RX5 TX5 [pb_i 0, pb_i 0, pb_i 0, pb_i 0] rfl rfl rfl rfl (fun j hj => by
    have hj : j < 4 := hj
    match j, hj with
    | 0, _ => rfl
    | 1, _ => rfl
    | 2, _ => rfl
    | 3, _ => rfl) (by omega) (by omega) ?_
  refine pb_Ex.run rfl ?_
  refine pb_Ex.newI 1 rfl rfl (by omega) (by omega) (by omega) ?_
  have I0 := no_I.st hf 1
  show pb_Ex G _ _ _ _ _ _ _ _ _ (pb_r (h.1 + 1) :: _) _
  generalize pb_new (pb_new h (pb_ob 4 [pb_i 0, pb_i 0, pb_i 0, pb_i 0])) (pb_aI 0 1 fun _ => 0) = g0 at I0 ⊢
  (try refine pb_Ex.run rfl ?_)
  refine pb_Ex.istat (0) rfl (I0.2.2.2) (by omega) (by omega) ?_
  (try refine pb_Ex.run rfl ?_)
  have I1 := I0.up hf 0 a
  generalize pb_set g0 (h.1 + 1) _ = g1 at I1 ⊢
  obtain ⟨x2, s2, b1, b2⟩ := I1
  refine pb_Ex.cIo rfl rfl rfl rfl (op_init (by decide) b1 b2 (by omega)) (by omega) (by omega) (by omega) (fun h3 e3 => ?_)
  obtain ⟨s3, o3, k3⟩ := e3
  (try refine pb_Ex.run rfl ?_)
  have x3 : fr_x h h3 := ⟨by omega, fun b c hb _ => by rw [k3 b (by have := hf b c hb; omega)]; exact x2.at hb⟩
  have o3' : h3.2 h.1 = some (pb_ob 4 [pb_i (op_c 2), pb_i a, pb_i 0, pb_i 0]) := o3
  refine pb_Ex.cVW rfl rfl rfl rfl (x3.at u1) rfl rfl (bo_modify hG (hK.x hG x3) (hU.x x3) ok ht (fun z hz => hD z (by have := x3.1; omega)) 2 (by omega) ha (by omega) (by omega) o3') ⟨by omega, by omega, by omega⟩ (fun v h4 hq => ?_) (fun E q h4 hq => pb_Xx.out rfl (by omega) (by omega) (hq.pre x3))
  have hq2 := hq.pre x3
  obtain ⟨v', rfl⟩ := hq2.int
  (try refine pb_Ex.run rfl ?_)
  refine pb_Ex.iret rfl rfl (by omega) (by omega) (hq2)
theorem bo_setCargo (hG : co_G G K) (hK : co_W K h) (hU : bo_W G K h o x F) (ok : bo_ok t x F) (ht : t + 99 ≤ 200000) (hD : ∀ z, h.1 ≤ z → co_D K z) (a : Int) (ha : pb_rg a) (b : Int) (hb : pb_rg b) : pb_Ctr G mX1_setCargo 20 20000 40000 [pb_r o, pb_i a, pb_i b] h (bo_mQ G K h o x F (mo_exu 3) (op_sp (F 0) 3 a b 0) (op_w (F 0) 3 a)) := by
  have hU' := hU
  obtain ⟨A, S, Y, B, u1, -⟩ := hU'
  refine pb_Ctr.of rfl rfl rfl tX1_setCargo_ok rfl ?_
  (try refine pb_Ex.run rfl ?_)
  refine pb_Ex.fin (fun hf => ?_)
  refine pb_Ex.new 4 4 RX5 TX5 [pb_i 0, pb_i 0, pb_i 0, pb_i 0] rfl rfl rfl rfl (fun j hj => by
    have hj : j < 4 := hj
    match j, hj with
    | 0, _ => rfl
    | 1, _ => rfl
    | 2, _ => rfl
    | 3, _ => rfl) (by omega) (by omega) ?_
  refine pb_Ex.run rfl ?_
  refine pb_Ex.newI 2 rfl rfl (by omega) (by omega) (by omega) ?_
  have I0 := no_I.st hf 2
  show pb_Ex G _ _ _ _ _ _ _ _ _ (pb_r (h.1 + 1) :: _) _
  generalize pb_new (pb_new h (pb_ob 4 [pb_i 0, pb_i 0, pb_i 0, pb_i 0])) (pb_aI 0 2 fun _ => 0) = g0 at I0 ⊢
  (try refine pb_Ex.run rfl ?_)
  refine pb_Ex.istat (0) rfl (I0.2.2.2) (by omega) (by omega) ?_
  (try refine pb_Ex.run rfl ?_)
  have I1 := I0.up hf 0 a
  generalize pb_set g0 (h.1 + 1) _ = g1 at I1 ⊢
  refine pb_Ex.istat (1) rfl (I1.2.2.2) (by omega) (by omega) ?_
  (try refine pb_Ex.run rfl ?_)
  have I2 := I1.up hf 1 b
  generalize pb_set g1 (h.1 + 1) _ = g2 at I2 ⊢
  obtain ⟨x2, s2, b1, b2⟩ := I2
  refine pb_Ex.cIo rfl rfl rfl rfl (op_init (by decide) b1 b2 (by omega)) (by omega) (by omega) (by omega) (fun h3 e3 => ?_)
  obtain ⟨s3, o3, k3⟩ := e3
  (try refine pb_Ex.run rfl ?_)
  have x3 : fr_x h h3 := ⟨by omega, fun b c hb _ => by rw [k3 b (by have := hf b c hb; omega)]; exact x2.at hb⟩
  have o3' : h3.2 h.1 = some (pb_ob 4 [pb_i (op_c 3), pb_i a, pb_i b, pb_i 0]) := o3
  refine pb_Ex.cVW rfl rfl rfl rfl (x3.at u1) rfl rfl (bo_modify hG (hK.x hG x3) (hU.x x3) ok ht (fun z hz => hD z (by have := x3.1; omega)) 3 (by omega) ha hb (by omega) o3') ⟨by omega, by omega, by omega⟩ (fun v h4 hq => ?_) (fun E q h4 hq => pb_Xx.out rfl (by omega) (by omega) (hq.pre x3))
  have hq2 := hq.pre x3
  obtain ⟨v', rfl⟩ := hq2.int
  (try refine pb_Ex.run rfl ?_)
  refine pb_Ex.iret rfl rfl (by omega) (by omega) (hq2)
theorem bo_launch (hG : co_G G K) (hK : co_W K h) (hU : bo_W G K h o x F) (ok : bo_ok t x F) (ht : t + 99 ≤ 200000) (hD : ∀ z, h.1 ≤ z → co_D K z) (a : Int) (ha : pb_rg a) : pb_Ctr G mX1_launch 20 20000 40000 [pb_r o, pb_i a] h (bo_mQ G K h o x F (mo_exu 4) (op_sp (F 0) 4 a 0 0) (op_w (F 0) 4 a)) := by
  have hU' := hU
  obtain ⟨A, S, Y, B, u1, -⟩ := hU'
  refine pb_Ctr.of rfl rfl rfl tX1_launch_ok rfl ?_
  (try refine pb_Ex.run rfl ?_)
  refine pb_Ex.fin (fun hf => ?_)
  refine pb_Ex.new 4 4 RX5 TX5 [pb_i 0, pb_i 0, pb_i 0, pb_i 0] rfl rfl rfl rfl (fun j hj => by
    have hj : j < 4 := hj
    match j, hj with
    | 0, _ => rfl
    | 1, _ => rfl
    | 2, _ => rfl
    | 3, _ => rfl) (by omega) (by omega) ?_
  refine pb_Ex.run rfl ?_
  refine pb_Ex.newI 1 rfl rfl (by omega) (by omega) (by omega) ?_
  have I0 := no_I.st hf 1
  show pb_Ex G _ _ _ _ _ _ _ _ _ (pb_r (h.1 + 1) :: _) _
  generalize pb_new (pb_new h (pb_ob 4 [pb_i 0, pb_i 0, pb_i 0, pb_i 0])) (pb_aI 0 1 fun _ => 0) = g0 at I0 ⊢
  (try refine pb_Ex.run rfl ?_)
  refine pb_Ex.istat (0) rfl (I0.2.2.2) (by omega) (by omega) ?_
  (try refine pb_Ex.run rfl ?_)
  have I1 := I0.up hf 0 a
  generalize pb_set g0 (h.1 + 1) _ = g1 at I1 ⊢
  obtain ⟨x2, s2, b1, b2⟩ := I1
  refine pb_Ex.cIo rfl rfl rfl rfl (op_init (by decide) b1 b2 (by omega)) (by omega) (by omega) (by omega) (fun h3 e3 => ?_)
  obtain ⟨s3, o3, k3⟩ := e3
  (try refine pb_Ex.run rfl ?_)
  have x3 : fr_x h h3 := ⟨by omega, fun b c hb _ => by rw [k3 b (by have := hf b c hb; omega)]; exact x2.at hb⟩
  have o3' : h3.2 h.1 = some (pb_ob 4 [pb_i (op_c 4), pb_i a, pb_i 0, pb_i 0]) := o3
  refine pb_Ex.cVW rfl rfl rfl rfl (x3.at u1) rfl rfl (bo_modify hG (hK.x hG x3) (hU.x x3) ok ht (fun z hz => hD z (by have := x3.1; omega)) 4 (by omega) ha (by omega) (by omega) o3') ⟨by omega, by omega, by omega⟩ (fun v h4 hq => ?_) (fun E q h4 hq => pb_Xx.out rfl (by omega) (by omega) (hq.pre x3))
  have hq2 := hq.pre x3
  obtain ⟨v', rfl⟩ := hq2.int
  (try refine pb_Ex.run rfl ?_)
  refine pb_Ex.iret rfl rfl (by omega) (by omega) (hq2)
theorem bo_caulk (hG : co_G G K) (hK : co_W K h) (hU : bo_W G K h o x F) (ok : bo_ok t x F) (ht : t + 99 ≤ 200000) (hD : ∀ z, h.1 ≤ z → co_D K z) (a : Int) (ha : pb_rg a) (b : Int) (hb : pb_rg b) : pb_Ctr G mX1_caulk 20 20000 40000 [pb_r o, pb_i a, pb_i b] h (bo_mQ G K h o x F (mo_exu 5) (op_sp (F 0) 5 a b 0) (op_w (F 0) 5 a)) := by
  have hU' := hU
  obtain ⟨A, S, Y, B, u1, -⟩ := hU'
  refine pb_Ctr.of rfl rfl rfl tX1_caulk_ok rfl ?_
  (try refine pb_Ex.run rfl ?_)
  refine pb_Ex.fin (fun hf => ?_)
  refine pb_Ex.new 4 4 RX5 TX5 [pb_i 0, pb_i 0, pb_i 0, pb_i 0] rfl rfl rfl rfl (fun j hj => by
    have hj : j < 4 := hj
    match j, hj with
    | 0, _ => rfl
    | 1, _ => rfl
    | 2, _ => rfl
    | 3, _ => rfl) (by omega) (by omega) ?_
  refine pb_Ex.run rfl ?_
  refine pb_Ex.newI 2 rfl rfl (by omega) (by omega) (by omega) ?_
  have I0 := no_I.st hf 2
  show pb_Ex G _ _ _ _ _ _ _ _ _ (pb_r (h.1 + 1) :: _) _
  generalize pb_new (pb_new h (pb_ob 4 [pb_i 0, pb_i 0, pb_i 0, pb_i 0])) (pb_aI 0 2 fun _ => 0) = g0 at I0 ⊢
  (try refine pb_Ex.run rfl ?_)
  refine pb_Ex.istat (0) rfl (I0.2.2.2) (by omega) (by omega) ?_
  (try refine pb_Ex.run rfl ?_)
  have I1 := I0.up hf 0 a
  generalize pb_set g0 (h.1 + 1) _ = g1 at I1 ⊢
  refine pb_Ex.istat (1) rfl (I1.2.2.2) (by omega) (by omega) ?_
  (try refine pb_Ex.run rfl ?_)
  have I2 := I1.up hf 1 b
  generalize pb_set g1 (h.1 + 1) _ = g2 at I2 ⊢
  obtain ⟨x2, s2, b1, b2⟩ := I2
  refine pb_Ex.cIo rfl rfl rfl rfl (op_init (by decide) b1 b2 (by omega)) (by omega) (by omega) (by omega) (fun h3 e3 => ?_)
  obtain ⟨s3, o3, k3⟩ := e3
  (try refine pb_Ex.run rfl ?_)
  have x3 : fr_x h h3 := ⟨by omega, fun b c hb _ => by rw [k3 b (by have := hf b c hb; omega)]; exact x2.at hb⟩
  have o3' : h3.2 h.1 = some (pb_ob 4 [pb_i (op_c 5), pb_i a, pb_i b, pb_i 0]) := o3
  refine pb_Ex.cVW rfl rfl rfl rfl (x3.at u1) rfl rfl (bo_modify hG (hK.x hG x3) (hU.x x3) ok ht (fun z hz => hD z (by have := x3.1; omega)) 5 (by omega) ha hb (by omega) o3') ⟨by omega, by omega, by omega⟩ (fun v h4 hq => ?_) (fun E q h4 hq => pb_Xx.out rfl (by omega) (by omega) (hq.pre x3))
  have hq2 := hq.pre x3
  obtain ⟨v', rfl⟩ := hq2.int
  (try refine pb_Ex.run rfl ?_)
  refine pb_Ex.iret rfl rfl (by omega) (by omega) (hq2)
theorem bo_pump (hG : co_G G K) (hK : co_W K h) (hU : bo_W G K h o x F) (ok : bo_ok t x F) (ht : t + 99 ≤ 200000) (hD : ∀ z, h.1 ≤ z → co_D K z) (a : Int) (ha : pb_rg a) (b : Int) (hb : pb_rg b) : pb_Ctr G mX1_pump 20 20000 40000 [pb_r o, pb_i a, pb_i b] h (bo_mQ G K h o x F (mo_exu 6) (op_sp (F 0) 6 a b 0) (op_w (F 0) 6 a)) := by
  have hU' := hU
  obtain ⟨A, S, Y, B, u1, -⟩ := hU'
  refine pb_Ctr.of rfl rfl rfl tX1_pump_ok rfl ?_
  (try refine pb_Ex.run rfl ?_)
  refine pb_Ex.fin (fun hf => ?_)
  refine pb_Ex.new 4 4 RX5 TX5 [pb_i 0, pb_i 0, pb_i 0, pb_i 0] rfl rfl rfl rfl (fun j hj => by
    have hj : j < 4 := hj
    match j, hj with
    | 0, _ => rfl
    | 1, _ => rfl
    | 2, _ => rfl
    | 3, _ => rfl) (by omega) (by omega) ?_
  refine pb_Ex.run rfl ?_
  refine pb_Ex.newI 2 rfl rfl (by omega) (by omega) (by omega) ?_
  have I0 := no_I.st hf 2
  show pb_Ex G _ _ _ _ _ _ _ _ _ (pb_r (h.1 + 1) :: _) _
  generalize pb_new (pb_new h (pb_ob 4 [pb_i 0, pb_i 0, pb_i 0, pb_i 0])) (pb_aI 0 2 fun _ => 0) = g0 at I0 ⊢
  (try refine pb_Ex.run rfl ?_)
  refine pb_Ex.istat (0) rfl (I0.2.2.2) (by omega) (by omega) ?_
  (try refine pb_Ex.run rfl ?_)
  have I1 := I0.up hf 0 a
  generalize pb_set g0 (h.1 + 1) _ = g1 at I1 ⊢
  refine pb_Ex.istat (1) rfl (I1.2.2.2) (by omega) (by omega) ?_
  (try refine pb_Ex.run rfl ?_)
  have I2 := I1.up hf 1 b
  generalize pb_set g1 (h.1 + 1) _ = g2 at I2 ⊢
  obtain ⟨x2, s2, b1, b2⟩ := I2
  refine pb_Ex.cIo rfl rfl rfl rfl (op_init (by decide) b1 b2 (by omega)) (by omega) (by omega) (by omega) (fun h3 e3 => ?_)
  obtain ⟨s3, o3, k3⟩ := e3
  (try refine pb_Ex.run rfl ?_)
  have x3 : fr_x h h3 := ⟨by omega, fun b c hb _ => by rw [k3 b (by have := hf b c hb; omega)]; exact x2.at hb⟩
  have o3' : h3.2 h.1 = some (pb_ob 4 [pb_i (op_c 6), pb_i a, pb_i b, pb_i 0]) := o3
  refine pb_Ex.cVW rfl rfl rfl rfl (x3.at u1) rfl rfl (bo_modify hG (hK.x hG x3) (hU.x x3) ok ht (fun z hz => hD z (by have := x3.1; omega)) 6 (by omega) ha hb (by omega) o3') ⟨by omega, by omega, by omega⟩ (fun v h4 hq => ?_) (fun E q h4 hq => pb_Xx.out rfl (by omega) (by omega) (hq.pre x3))
  have hq2 := hq.pre x3
  obtain ⟨v', rfl⟩ := hq2.int
  (try refine pb_Ex.run rfl ?_)
  refine pb_Ex.iret rfl rfl (by omega) (by omega) (hq2)
theorem bo_pass (hG : co_G G K) (hK : co_W K h) (hU : bo_W G K h o x F) (ok : bo_ok t x F) (ht : t + 99 ≤ 200000) (hD : ∀ z, h.1 ≤ z → co_D K z) (a : Int) (ha : pb_rg a) : pb_Ctr G mX1_pass 20 20000 40000 [pb_r o, pb_i a] h (bo_mQ G K h o x F (mo_exu 7) (op_sp (F 0) 7 a 0 0) (op_w (F 0) 7 a)) := by
  have hU' := hU
  obtain ⟨A, S, Y, B, u1, -⟩ := hU'
  refine pb_Ctr.of rfl rfl rfl tX1_pass_ok rfl ?_
  (try refine pb_Ex.run rfl ?_)
  refine pb_Ex.fin (fun hf => ?_)
  refine pb_Ex.new 4 4 RX5 TX5 [pb_i 0, pb_i 0, pb_i 0, pb_i 0] rfl rfl rfl rfl (fun j hj => by
    have hj : j < 4 := hj
    match j, hj with
    | 0, _ => rfl
    | 1, _ => rfl
    | 2, _ => rfl
    | 3, _ => rfl) (by omega) (by omega) ?_
  refine pb_Ex.run rfl ?_
  refine pb_Ex.newI 1 rfl rfl (by omega) (by omega) (by omega) ?_
  have I0 := no_I.st hf 1
  show pb_Ex G _ _ _ _ _ _ _ _ _ (pb_r (h.1 + 1) :: _) _
  generalize pb_new (pb_new h (pb_ob 4 [pb_i 0, pb_i 0, pb_i 0, pb_i 0])) (pb_aI 0 1 fun _ => 0) = g0 at I0 ⊢
  (try refine pb_Ex.run rfl ?_)
  refine pb_Ex.istat (0) rfl (I0.2.2.2) (by omega) (by omega) ?_
  (try refine pb_Ex.run rfl ?_)
  have I1 := I0.up hf 0 a
  generalize pb_set g0 (h.1 + 1) _ = g1 at I1 ⊢
  obtain ⟨x2, s2, b1, b2⟩ := I1
  refine pb_Ex.cIo rfl rfl rfl rfl (op_init (by decide) b1 b2 (by omega)) (by omega) (by omega) (by omega) (fun h3 e3 => ?_)
  obtain ⟨s3, o3, k3⟩ := e3
  (try refine pb_Ex.run rfl ?_)
  have x3 : fr_x h h3 := ⟨by omega, fun b c hb _ => by rw [k3 b (by have := hf b c hb; omega)]; exact x2.at hb⟩
  have o3' : h3.2 h.1 = some (pb_ob 4 [pb_i (op_c 7), pb_i a, pb_i 0, pb_i 0]) := o3
  refine pb_Ex.cVW rfl rfl rfl rfl (x3.at u1) rfl rfl (bo_modify hG (hK.x hG x3) (hU.x x3) ok ht (fun z hz => hD z (by have := x3.1; omega)) 7 (by omega) ha (by omega) (by omega) o3') ⟨by omega, by omega, by omega⟩ (fun v h4 hq => ?_) (fun E q h4 hq => pb_Xx.out rfl (by omega) (by omega) (hq.pre x3))
  have hq2 := hq.pre x3
  obtain ⟨v', rfl⟩ := hq2.int
  (try refine pb_Ex.run rfl ?_)
  refine pb_Ex.iret rfl rfl (by omega) (by omega) (hq2)
theorem bo_setTide (hG : co_G G K) (hK : co_W K h) (hU : bo_W G K h o x F) (ok : bo_ok t x F) (ht : t + 99 ≤ 200000) (hD : ∀ z, h.1 ≤ z → co_D K z) (a : Int) (ha : pb_rg a) (b : Int) (hb : pb_rg b) : pb_Ctr G mX1_setTide 20 20000 40000 [pb_r o, pb_i a, pb_i b] h (bo_mQ G K h o x F (mo_exu 8) (op_sp (F 0) 8 a b 0) (op_w (F 0) 8 a)) := by
  have hU' := hU
  obtain ⟨A, S, Y, B, u1, -⟩ := hU'
  refine pb_Ctr.of rfl rfl rfl tX1_setTide_ok rfl ?_
  (try refine pb_Ex.run rfl ?_)
  refine pb_Ex.fin (fun hf => ?_)
  refine pb_Ex.new 4 4 RX5 TX5 [pb_i 0, pb_i 0, pb_i 0, pb_i 0] rfl rfl rfl rfl (fun j hj => by
    have hj : j < 4 := hj
    match j, hj with
    | 0, _ => rfl
    | 1, _ => rfl
    | 2, _ => rfl
    | 3, _ => rfl) (by omega) (by omega) ?_
  refine pb_Ex.run rfl ?_
  refine pb_Ex.newI 2 rfl rfl (by omega) (by omega) (by omega) ?_
  have I0 := no_I.st hf 2
  show pb_Ex G _ _ _ _ _ _ _ _ _ (pb_r (h.1 + 1) :: _) _
  generalize pb_new (pb_new h (pb_ob 4 [pb_i 0, pb_i 0, pb_i 0, pb_i 0])) (pb_aI 0 2 fun _ => 0) = g0 at I0 ⊢
  (try refine pb_Ex.run rfl ?_)
  refine pb_Ex.istat (0) rfl (I0.2.2.2) (by omega) (by omega) ?_
  (try refine pb_Ex.run rfl ?_)
  have I1 := I0.up hf 0 a
  generalize pb_set g0 (h.1 + 1) _ = g1 at I1 ⊢
  refine pb_Ex.istat (1) rfl (I1.2.2.2) (by omega) (by omega) ?_
  (try refine pb_Ex.run rfl ?_)
  have I2 := I1.up hf 1 b
  generalize pb_set g1 (h.1 + 1) _ = g2 at I2 ⊢
  obtain ⟨x2, s2, b1, b2⟩ := I2
  refine pb_Ex.cIo rfl rfl rfl rfl (op_init (by decide) b1 b2 (by omega)) (by omega) (by omega) (by omega) (fun h3 e3 => ?_)
  obtain ⟨s3, o3, k3⟩ := e3
  (try refine pb_Ex.run rfl ?_)
  have x3 : fr_x h h3 := ⟨by omega, fun b c hb _ => by rw [k3 b (by have := hf b c hb; omega)]; exact x2.at hb⟩
  have o3' : h3.2 h.1 = some (pb_ob 4 [pb_i (op_c 8), pb_i a, pb_i b, pb_i 0]) := o3
  refine pb_Ex.cVW rfl rfl rfl rfl (x3.at u1) rfl rfl (bo_modify hG (hK.x hG x3) (hU.x x3) ok ht (fun z hz => hD z (by have := x3.1; omega)) 8 (by omega) ha hb (by omega) o3') ⟨by omega, by omega, by omega⟩ (fun v h4 hq => ?_) (fun E q h4 hq => pb_Xx.out rfl (by omega) (by omega) (hq.pre x3))
  have hq2 := hq.pre x3
  obtain ⟨v', rfl⟩ := hq2.int
  (try refine pb_Ex.run rfl ?_)
  refine pb_Ex.iret rfl rfl (by omega) (by omega) (hq2)
theorem bo_addOrder (hG : co_G G K) (hK : co_W K h) (hU : bo_W G K h o x F) (ok : bo_ok t x F) (ht : t + 99 ≤ 200000) (hD : ∀ z, h.1 ≤ z → co_D K z) (a : Int) (ha : pb_rg a) (b : Int) (hb : pb_rg b) (c : Int) (hc : pb_rg c) : pb_Ctr G mX1_addOrder 20 20000 40000 [pb_r o, pb_i a, pb_i b, pb_i c] h (bo_mQ G K h o x F (mo_exu 9) (op_sp (F 0) 9 a b c) (op_w (F 0) 9 a)) := by
  have hU' := hU
  obtain ⟨A, S, Y, B, u1, -⟩ := hU'
  refine pb_Ctr.of rfl rfl rfl tX1_addOrder_ok rfl ?_
  (try refine pb_Ex.run rfl ?_)
  refine pb_Ex.fin (fun hf => ?_)
  refine pb_Ex.new 4 4 RX5 TX5 [pb_i 0, pb_i 0, pb_i 0, pb_i 0] rfl rfl rfl rfl (fun j hj => by
    have hj : j < 4 := hj
    match j, hj with
    | 0, _ => rfl
    | 1, _ => rfl
    | 2, _ => rfl
    | 3, _ => rfl) (by omega) (by omega) ?_
  refine pb_Ex.run rfl ?_
  refine pb_Ex.newI 3 rfl rfl (by omega) (by omega) (by omega) ?_
  have I0 := no_I.st hf 3
  show pb_Ex G _ _ _ _ _ _ _ _ _ (pb_r (h.1 + 1) :: _) _
  generalize pb_new (pb_new h (pb_ob 4 [pb_i 0, pb_i 0, pb_i 0, pb_i 0])) (pb_aI 0 3 fun _ => 0) = g0 at I0 ⊢
  (try refine pb_Ex.run rfl ?_)
  refine pb_Ex.istat (0) rfl (I0.2.2.2) (by omega) (by omega) ?_
  (try refine pb_Ex.run rfl ?_)
  have I1 := I0.up hf 0 a
  generalize pb_set g0 (h.1 + 1) _ = g1 at I1 ⊢
  refine pb_Ex.istat (1) rfl (I1.2.2.2) (by omega) (by omega) ?_
  (try refine pb_Ex.run rfl ?_)
  have I2 := I1.up hf 1 b
  generalize pb_set g1 (h.1 + 1) _ = g2 at I2 ⊢
  refine pb_Ex.istat (2) rfl (I2.2.2.2) (by omega) (by omega) ?_
  (try refine pb_Ex.run rfl ?_)
  have I3 := I2.up hf 2 c
  generalize pb_set g2 (h.1 + 1) _ = g3 at I3 ⊢
  obtain ⟨x2, s2, b1, b2⟩ := I3
  refine pb_Ex.cIo rfl rfl rfl rfl (op_init (by decide) b1 b2 (by omega)) (by omega) (by omega) (by omega) (fun h3 e3 => ?_)
  obtain ⟨s3, o3, k3⟩ := e3
  (try refine pb_Ex.run rfl ?_)
  have x3 : fr_x h h3 := ⟨by omega, fun b c hb _ => by rw [k3 b (by have := hf b c hb; omega)]; exact x2.at hb⟩
  have o3' : h3.2 h.1 = some (pb_ob 4 [pb_i (op_c 9), pb_i a, pb_i b, pb_i c]) := o3
  refine pb_Ex.cVW rfl rfl rfl rfl (x3.at u1) rfl rfl (bo_modify hG (hK.x hG x3) (hU.x x3) ok ht (fun z hz => hD z (by have := x3.1; omega)) 9 (by omega) ha hb hc o3') ⟨by omega, by omega, by omega⟩ (fun v h4 hq => ?_) (fun E q h4 hq => pb_Xx.out rfl (by omega) (by omega) (hq.pre x3))
  have hq2 := hq.pre x3
  obtain ⟨v', rfl⟩ := hq2.int
  (try refine pb_Ex.run rfl ?_)
  refine pb_Ex.iret rfl rfl (by omega) (by omega) (hq2)
theorem bo_deliver (hG : co_G G K) (hK : co_W K h) (hU : bo_W G K h o x F) (ok : bo_ok t x F) (ht : t + 99 ≤ 200000) (hD : ∀ z, h.1 ≤ z → co_D K z) (a : Int) (ha : pb_rg a) (b : Int) (hb : pb_rg b) : pb_Ctr G mX1_deliver 20 20000 40000 [pb_r o, pb_i a, pb_i b] h (bo_mQ G K h o x F (mo_exu 10) (op_sp (F 0) 10 a b 0) (op_w (F 0) 10 a)) := by
  have hU' := hU
  obtain ⟨A, S, Y, B, u1, -⟩ := hU'
  refine pb_Ctr.of rfl rfl rfl tX1_deliver_ok rfl ?_
  (try refine pb_Ex.run rfl ?_)
  refine pb_Ex.fin (fun hf => ?_)
  refine pb_Ex.new 4 4 RX5 TX5 [pb_i 0, pb_i 0, pb_i 0, pb_i 0] rfl rfl rfl rfl (fun j hj => by
    have hj : j < 4 := hj
    match j, hj with
    | 0, _ => rfl
    | 1, _ => rfl
    | 2, _ => rfl
    | 3, _ => rfl) (by omega) (by omega) ?_
  refine pb_Ex.run rfl ?_
  refine pb_Ex.newI 2 rfl rfl (by omega) (by omega) (by omega) ?_
  have I0 := no_I.st hf 2
  show pb_Ex G _ _ _ _ _ _ _ _ _ (pb_r (h.1 + 1) :: _) _
  generalize pb_new (pb_new h (pb_ob 4 [pb_i 0, pb_i 0, pb_i 0, pb_i 0])) (pb_aI 0 2 fun _ => 0) = g0 at I0 ⊢
  (try refine pb_Ex.run rfl ?_)
  refine pb_Ex.istat (0) rfl (I0.2.2.2) (by omega) (by omega) ?_
  (try refine pb_Ex.run rfl ?_)
  have I1 := I0.up hf 0 a
  generalize pb_set g0 (h.1 + 1) _ = g1 at I1 ⊢
  refine pb_Ex.istat (1) rfl (I1.2.2.2) (by omega) (by omega) ?_
  (try refine pb_Ex.run rfl ?_)
  have I2 := I1.up hf 1 b
  generalize pb_set g1 (h.1 + 1) _ = g2 at I2 ⊢
  obtain ⟨x2, s2, b1, b2⟩ := I2
  refine pb_Ex.cIo rfl rfl rfl rfl (op_init (by decide) b1 b2 (by omega)) (by omega) (by omega) (by omega) (fun h3 e3 => ?_)
  obtain ⟨s3, o3, k3⟩ := e3
  (try refine pb_Ex.run rfl ?_)
  have x3 : fr_x h h3 := ⟨by omega, fun b c hb _ => by rw [k3 b (by have := hf b c hb; omega)]; exact x2.at hb⟩
  have o3' : h3.2 h.1 = some (pb_ob 4 [pb_i (op_c 10), pb_i a, pb_i b, pb_i 0]) := o3
  refine pb_Ex.cVW rfl rfl rfl rfl (x3.at u1) rfl rfl (bo_modify hG (hK.x hG x3) (hU.x x3) ok ht (fun z hz => hD z (by have := x3.1; omega)) 10 (by omega) ha hb (by omega) o3') ⟨by omega, by omega, by omega⟩ (fun v h4 hq => ?_) (fun E q h4 hq => pb_Xx.out rfl (by omega) (by omega) (hq.pre x3))
  have hq2 := hq.pre x3
  obtain ⟨v', rfl⟩ := hq2.int
  (try refine pb_Ex.run rfl ?_)
  refine pb_Ex.iret rfl rfl (by omega) (by omega) (hq2)
theorem bo_setSlip (hG : co_G G K) (hK : co_W K h) (hU : bo_W G K h o x F) (ok : bo_ok t x F) (ht : t + 99 ≤ 200000) (hD : ∀ z, h.1 ≤ z → co_D K z) (a : Int) (ha : pb_rg a) (b : Int) (hb : pb_rg b) : pb_Ctr G mX1_setSlip 20 20000 40000 [pb_r o, pb_i a, pb_i b] h (bo_mQ G K h o x F (mo_exu 11) (op_sp (F 0) 11 a b 0) (op_w (F 0) 11 a)) := by
  have hU' := hU
  obtain ⟨A, S, Y, B, u1, -⟩ := hU'
  refine pb_Ctr.of rfl rfl rfl tX1_setSlip_ok rfl ?_
  (try refine pb_Ex.run rfl ?_)
  refine pb_Ex.fin (fun hf => ?_)
  refine pb_Ex.new 4 4 RX5 TX5 [pb_i 0, pb_i 0, pb_i 0, pb_i 0] rfl rfl rfl rfl (fun j hj => by
    have hj : j < 4 := hj
    match j, hj with
    | 0, _ => rfl
    | 1, _ => rfl
    | 2, _ => rfl
    | 3, _ => rfl) (by omega) (by omega) ?_
  refine pb_Ex.run rfl ?_
  refine pb_Ex.newI 2 rfl rfl (by omega) (by omega) (by omega) ?_
  have I0 := no_I.st hf 2
  show pb_Ex G _ _ _ _ _ _ _ _ _ (pb_r (h.1 + 1) :: _) _
  generalize pb_new (pb_new h (pb_ob 4 [pb_i 0, pb_i 0, pb_i 0, pb_i 0])) (pb_aI 0 2 fun _ => 0) = g0 at I0 ⊢
  (try refine pb_Ex.run rfl ?_)
  refine pb_Ex.istat (0) rfl (I0.2.2.2) (by omega) (by omega) ?_
  (try refine pb_Ex.run rfl ?_)
  have I1 := I0.up hf 0 a
  generalize pb_set g0 (h.1 + 1) _ = g1 at I1 ⊢
  refine pb_Ex.istat (1) rfl (I1.2.2.2) (by omega) (by omega) ?_
  (try refine pb_Ex.run rfl ?_)
  have I2 := I1.up hf 1 b
  generalize pb_set g1 (h.1 + 1) _ = g2 at I2 ⊢
  obtain ⟨x2, s2, b1, b2⟩ := I2
  refine pb_Ex.cIo rfl rfl rfl rfl (op_init (by decide) b1 b2 (by omega)) (by omega) (by omega) (by omega) (fun h3 e3 => ?_)
  obtain ⟨s3, o3, k3⟩ := e3
  (try refine pb_Ex.run rfl ?_)
  have x3 : fr_x h h3 := ⟨by omega, fun b c hb _ => by rw [k3 b (by have := hf b c hb; omega)]; exact x2.at hb⟩
  have o3' : h3.2 h.1 = some (pb_ob 4 [pb_i (op_c 11), pb_i a, pb_i b, pb_i 0]) := o3
  refine pb_Ex.cVW rfl rfl rfl rfl (x3.at u1) rfl rfl (bo_modify hG (hK.x hG x3) (hU.x x3) ok ht (fun z hz => hD z (by have := x3.1; omega)) 11 (by omega) ha hb (by omega) o3') ⟨by omega, by omega, by omega⟩ (fun v h4 hq => ?_) (fun E q h4 hq => pb_Xx.out rfl (by omega) (by omega) (hq.pre x3))
  have hq2 := hq.pre x3
  obtain ⟨v', rfl⟩ := hq2.int
  (try refine pb_Ex.run rfl ?_)
  refine pb_Ex.iret rfl rfl (by omega) (by omega) (hq2)
end OPSX
