set_option maxRecDepth 100000
/-! HISTORY: its synchronized methods -/
def yX3_push : MethodName := ⟨RX3, "push", "(LPuddleBoatyard$Yard;)V"⟩
theorem dX3_push_0 : decode prog_4_method_2_code 0 = .ok (.aload_n 0, 1) := by decide +kernel
theorem dX3_push_1 : decode prog_4_method_2_code 1 = .ok (.getfield 12, 3) := by decide +kernel
theorem dX3_push_4 : decode prog_4_method_2_code 4 = .ok (.invokevirtual 18, 3) := by decide +kernel
theorem dX3_push_7 : decode prog_4_method_2_code 7 = .ok (.bipush 8, 2) := by decide +kernel
theorem dX3_push_9 : decode prog_4_method_2_code 9 = .ok (.if_icmp .ne 14, 3) := by decide +kernel
theorem dX3_push_12 : decode prog_4_method_2_code 12 = .ok (.aload_n 0, 1) := by decide +kernel
theorem dX3_push_13 : decode prog_4_method_2_code 13 = .ok (.getfield 12, 3) := by decide +kernel
theorem dX3_push_16 : decode prog_4_method_2_code 16 = .ok (.invokevirtual 22, 3) := by decide +kernel
theorem dX3_push_19 : decode prog_4_method_2_code 19 = .ok (.checkcast 26, 3) := by decide +kernel
theorem dX3_push_22 : decode prog_4_method_2_code 22 = .ok (.astore_n 2, 1) := by decide +kernel
theorem dX3_push_23 : decode prog_4_method_2_code 23 = .ok (.aload_n 0, 1) := by decide +kernel
theorem dX3_push_24 : decode prog_4_method_2_code 24 = .ok (.getfield 12, 3) := by decide +kernel
theorem dX3_push_27 : decode prog_4_method_2_code 27 = .ok (.aload_n 1, 1) := by decide +kernel
theorem dX3_push_28 : decode prog_4_method_2_code 28 = .ok (.invokevirtual 28, 3) := by decide +kernel
theorem dX3_push_31 : decode prog_4_method_2_code 31 = .ok (.return_, 1) := by decide +kernel
def tX3_push : pb_T := [(0, .aload_n 0, 1, 0), (1, .getfield 12, 4, 0), (4, .invokevirtual 18, 7, 0), (7, .bipush 8, 9, 0), (9, .if_icmp .ne 14, 12, 23), (12, .aload_n 0, 13, 0), (13, .getfield 12, 16, 0), (16, .invokevirtual 22, 19, 0), (19, .checkcast 26, 22, 0), (22, .astore_n 2, 23, 0), (23, .aload_n 0, 24, 0), (24, .getfield 12, 27, 0), (27, .aload_n 1, 28, 0), (28, .invokevirtual 28, 31, 0), (31, .return_, 32, 0)]
theorem tX3_push_ok : pb_Tok prog_4_method_2_code tX3_push := pb_Tok.cons dX3_push_0 rfl (pb_Tok.cons dX3_push_1 rfl (pb_Tok.cons dX3_push_4 rfl (pb_Tok.cons dX3_push_7 rfl (pb_Tok.cons dX3_push_9 rfl (pb_Tok.cons dX3_push_12 rfl (pb_Tok.cons dX3_push_13 rfl (pb_Tok.cons dX3_push_16 rfl (pb_Tok.cons dX3_push_19 rfl (pb_Tok.cons dX3_push_22 rfl (pb_Tok.cons dX3_push_23 rfl (pb_Tok.cons dX3_push_24 rfl (pb_Tok.cons dX3_push_27 rfl (pb_Tok.cons dX3_push_28 rfl (pb_Tok.cons dX3_push_31 rfl pb_Tok.nil))))))))))))))
def mX3_push : pb_M := (3, yX3_push, prog_4_method_2_code, 3, (Option.none : Option Jvm.ClassFile.FieldType), none, tX3_push)
theorem mX3_push_ok : pb_MOKY mX3_push 1 := ⟨⟨by decide +kernel, by decide +kernel⟩, by decide +kernel, by decide, q954, q79, q952, q953⟩
def yX3_pop : MethodName := ⟨RX3, "pop", "()LPuddleBoatyard$Yard;"⟩
theorem dX3_pop_0 : decode prog_4_method_3_code 0 = .ok (.aload_n 0, 1) := by decide +kernel
theorem dX3_pop_1 : decode prog_4_method_3_code 1 = .ok (.getfield 12, 3) := by decide +kernel
theorem dX3_pop_4 : decode prog_4_method_3_code 4 = .ok (.invokevirtual 32, 3) := by decide +kernel
theorem dX3_pop_7 : decode prog_4_method_3_code 7 = .ok (.ifCond .ne 7, 3) := by decide +kernel
theorem dX3_pop_10 : decode prog_4_method_3_code 10 = .ok (.iconst 1, 1) := by decide +kernel
theorem dX3_pop_11 : decode prog_4_method_3_code 11 = .ok (.goto 4, 3) := by decide +kernel
theorem dX3_pop_14 : decode prog_4_method_3_code 14 = .ok (.iconst 0, 1) := by decide +kernel
theorem dX3_pop_15 : decode prog_4_method_3_code 15 = .ok (.invokestatic 36, 3) := by decide +kernel
theorem dX3_pop_18 : decode prog_4_method_3_code 18 = .ok (.aload_n 0, 1) := by decide +kernel
theorem dX3_pop_19 : decode prog_4_method_3_code 19 = .ok (.getfield 12, 3) := by decide +kernel
theorem dX3_pop_22 : decode prog_4_method_3_code 22 = .ok (.invokevirtual 42, 3) := by decide +kernel
theorem dX3_pop_25 : decode prog_4_method_3_code 25 = .ok (.checkcast 26, 3) := by decide +kernel
theorem dX3_pop_28 : decode prog_4_method_3_code 28 = .ok (.areturn, 1) := by decide +kernel
def tX3_pop : pb_T := [(0, .aload_n 0, 1, 0), (1, .getfield 12, 4, 0), (4, .invokevirtual 32, 7, 0), (7, .ifCond .ne 7, 10, 14), (10, .iconst 1, 11, 0), (11, .goto 4, 14, 15), (14, .iconst 0, 15, 0), (15, .invokestatic 36, 18, 0), (18, .aload_n 0, 19, 0), (19, .getfield 12, 22, 0), (22, .invokevirtual 42, 25, 0), (25, .checkcast 26, 28, 0), (28, .areturn, 29, 0)]
theorem tX3_pop_ok : pb_Tok prog_4_method_3_code tX3_pop := pb_Tok.cons dX3_pop_0 rfl (pb_Tok.cons dX3_pop_1 rfl (pb_Tok.cons dX3_pop_4 rfl (pb_Tok.cons dX3_pop_7 rfl (pb_Tok.cons dX3_pop_10 rfl (pb_Tok.cons dX3_pop_11 rfl (pb_Tok.cons dX3_pop_14 rfl (pb_Tok.cons dX3_pop_15 rfl (pb_Tok.cons dX3_pop_18 rfl (pb_Tok.cons dX3_pop_19 rfl (pb_Tok.cons dX3_pop_22 rfl (pb_Tok.cons dX3_pop_25 rfl (pb_Tok.cons dX3_pop_28 rfl pb_Tok.nil))))))))))))
def mX3_pop : pb_M := (3, yX3_pop, prog_4_method_3_code, 1, (Option.some (Jvm.ClassFile.FieldType.object "PuddleBoatyard$Yard")), none, tX3_pop)
theorem mX3_pop_ok : pb_MOKY mX3_pop 0 := ⟨⟨by decide +kernel, by decide +kernel⟩, by decide +kernel, by decide, q1852, q79, q1850, q1851⟩
def yX3_clear : MethodName := ⟨RX3, "clear", "()V"⟩
theorem dX3_clear_0 : decode prog_4_method_4_code 0 = .ok (.aload_n 0, 1) := by decide +kernel
theorem dX3_clear_1 : decode prog_4_method_4_code 1 = .ok (.getfield 12, 3) := by decide +kernel
theorem dX3_clear_4 : decode prog_4_method_4_code 4 = .ok (.invokevirtual 45, 3) := by decide +kernel
theorem dX3_clear_7 : decode prog_4_method_4_code 7 = .ok (.return_, 1) := by decide +kernel
def tX3_clear : pb_T := [(0, .aload_n 0, 1, 0), (1, .getfield 12, 4, 0), (4, .invokevirtual 45, 7, 0), (7, .return_, 8, 0)]
theorem tX3_clear_ok : pb_Tok prog_4_method_4_code tX3_clear := pb_Tok.cons dX3_clear_0 rfl (pb_Tok.cons dX3_clear_1 rfl (pb_Tok.cons dX3_clear_4 rfl (pb_Tok.cons dX3_clear_7 rfl pb_Tok.nil)))
def mX3_clear : pb_M := (3, yX3_clear, prog_4_method_4_code, 1, (Option.none : Option Jvm.ClassFile.FieldType), none, tX3_clear)
theorem mX3_clear_ok : pb_MOKY mX3_clear 0 := ⟨⟨by decide +kernel, by decide +kernel⟩, by decide +kernel, by decide, q1887, q79, q1885, q1886⟩
def yX3_size : MethodName := ⟨RX3, "size", "()I"⟩
theorem dX3_size_0 : decode prog_4_method_5_code 0 = .ok (.aload_n 0, 1) := by decide +kernel
theorem dX3_size_1 : decode prog_4_method_5_code 1 = .ok (.getfield 12, 3) := by decide +kernel
theorem dX3_size_4 : decode prog_4_method_5_code 4 = .ok (.invokevirtual 18, 3) := by decide +kernel
theorem dX3_size_7 : decode prog_4_method_5_code 7 = .ok (.ireturn, 1) := by decide +kernel
def tX3_size : pb_T := [(0, .aload_n 0, 1, 0), (1, .getfield 12, 4, 0), (4, .invokevirtual 18, 7, 0), (7, .ireturn, 8, 0)]
theorem tX3_size_ok : pb_Tok prog_4_method_5_code tX3_size := pb_Tok.cons dX3_size_0 rfl (pb_Tok.cons dX3_size_1 rfl (pb_Tok.cons dX3_size_4 rfl (pb_Tok.cons dX3_size_7 rfl pb_Tok.nil)))
def mX3_size : pb_M := (3, yX3_size, prog_4_method_5_code, 1, (Option.some Jvm.ClassFile.FieldType.int), none, tX3_size)
theorem mX3_size_ok : pb_MOKY mX3_size 0 := ⟨⟨by decide +kernel, by decide +kernel⟩, by decide +kernel, by decide, q1876, q79, q1874, q1875⟩
section HIST
variable {G : pb_G} {K : co_K} {h : pb_H} {o a e m : Nat} {y : Nat → Nat}
/-- a history: the object o, its deque a, the deque's array e, n yards y, the last one first -/
def hi_W (h : pb_H) (o a e n : Nat) (y : Nat → Nat) : Prop := h.2 o = some (pb_ob 2 [pb_r a]) ∧ dq_W h a e n y
def hi_St (h : pb_H) (o a e n : Nat) (y : Nat → Nat) (h' : pb_H) : Prop := hi_W h' o a e n y ∧ h'.1 = h.1 ∧ ∀ b, b ≠ a → b ≠ e → h'.2 b = h.2 b
theorem dq_W.ne {n : Nat} (hW : dq_W h a e n y) {ci : Nat} {fs : List pb_V} (ho : h.2 o = some (pb_ob ci fs)) (hc : ci ≠ 13) : o ≠ a ∧ o ≠ e := by
  obtain ⟨hd, q, k1, k2, k3, k4, k5⟩ := hW
  refine ⟨fun z => ?_, fun z => ?_⟩
  · rw [z, k1] at ho; cases ho; exact hc rfl
  · rw [z, k4] at ho; cases ho
theorem dq_W.cg {h h' : pb_H} {n : Nat} (hW : dq_W h a e n y) (h1 : h'.2 a = h.2 a) (h2 : h'.2 e = h.2 e) : dq_W h' a e n y := by
  obtain ⟨hd, q, k1, k2, k3, k4, k5⟩ := hW
  exact ⟨hd, q, h1.trans k1, k2, k3, h2.trans k4, k5⟩
theorem dq_W.obj {n : Nat} (hW : dq_W h a e n y) : ∃ fs, h.2 a = some (pb_ob 13 fs) := by
  obtain ⟨hd, q, k1, -⟩ := hW
  exact ⟨_, k1⟩
theorem hi_size (hW : hi_W h o a e m y) (hm : m ≤ 9) : pb_CtrY G mX3_size 2 0 0 [pb_r o] h (fun oc h' => oc = .inl (some (pb_i m)) ∧ hi_St h o a e m y h') := by
  obtain ⟨ho, hd⟩ := hW
  obtain ⟨n1, n2⟩ := hd.ne ho (by decide)
  have hd2 : dq_W (pb_set h o (pb_ob 16 [pb_r a])) a e m y := hd.cg (pb_set_ne (Ne.symm n1)) (pb_set_ne (Ne.symm n2))
  obtain ⟨fsd, hob⟩ := hd2.obj
  refine pb_CtrY.of (by decide +kernel) rfl rfl q1874 tX3_size_ok rfl ho ?_
  refine pb_Ey.aload rfl rfl ?_
  refine pb_Ey.getf rfl rfl pb_set_same rfl ?_
  refine pb_Ey.cV rfl rfl rfl hob rfl rfl (jd_size hd2) ⟨by omega, by omega, by omega⟩ (fun v h1 hq => ?_) (fun E q h1 hq => by cases hq.1)
  obtain ⟨e1, rfl⟩ := hq
  cases e1
  refine pb_Ey.iret rfl rfl pb_set_same (by omega) (by omega) ⟨rfl, ⟨pb_set_same, hd.cg ((pb_set_ne (Ne.symm n1)).trans (pb_set_ne (Ne.symm n1))) ((pb_set_ne (Ne.symm n2)).trans (pb_set_ne (Ne.symm n2)))⟩, rfl, fun b _ _ => ?_⟩
  by_cases c : b = o
  · subst c; rw [pb_set_same, ho]
  · rw [pb_set_ne c, pb_set_ne c]
theorem hi_fin {h1 : pb_H} {n' : Nat} {y' : Nat → Nat} (ho : h.2 o = some (pb_ob 2 [pb_r a])) (n1 : o ≠ a) (n2 : o ≠ e) (hq : dq_St (pb_set h o (pb_ob 16 [pb_r a])) a e n' y' h1) : h1.2 o = some (pb_ob 16 [pb_r a]) ∧ hi_St h o a e n' y' (pb_set h1 o (pb_ob 2 [pb_r a])) := by
  obtain ⟨q1, q2, q3⟩ := hq
  refine ⟨(q3 o n1 n2).trans pb_set_same, ⟨pb_set_same, q1.cg (pb_set_ne (Ne.symm n1)) (pb_set_ne (Ne.symm n2))⟩, q2, fun b b1 b2 => ?_⟩
  by_cases c : b = o
  · subst c; rw [pb_set_same, ho]
  · rw [pb_set_ne c, q3 b b1 b2, pb_set_ne c]
theorem hi_clear (hW : hi_W h o a e m y) : pb_CtrY G mX3_clear 2 0 0 [pb_r o] h (fun oc h' => oc = .inl none ∧ hi_St h o a e 0 y h') := by
  obtain ⟨ho, hd⟩ := hW
  obtain ⟨n1, n2⟩ := hd.ne ho (by decide)
  have hd2 : dq_W (pb_set h o (pb_ob 16 [pb_r a])) a e m y := hd.cg (pb_set_ne (Ne.symm n1)) (pb_set_ne (Ne.symm n2))
  obtain ⟨fsd, hob⟩ := hd2.obj
  refine pb_CtrY.of (by decide +kernel) rfl rfl q1885 tX3_clear_ok rfl ho ?_
  refine pb_Ey.aload rfl rfl ?_
  refine pb_Ey.getf rfl rfl pb_set_same rfl ?_
  refine pb_Ey.cV rfl rfl rfl hob rfl rfl (jd_clear hd2) ⟨by omega, by omega, by omega⟩ (fun v h1 hq => ?_) (fun E q h1 hq => by cases hq.1)
  obtain ⟨e1, hq⟩ := hq
  cases e1
  obtain ⟨f1, f2⟩ := hi_fin ho n1 n2 hq
  exact pb_Ey.vret rfl rfl f1 (by omega) (by omega) ⟨rfl, f2⟩
theorem hi_push {x : Nat} {fs : List pb_V} (hW : hi_W h o a e m y) (hm : m ≤ 8) (hx : h.2 x = some (pb_ob 1 fs)) (hy : ∀ i, i < m → ∃ fs, h.2 (y i) = some (pb_ob 1 fs)) : pb_CtrY G mX3_push 3 0 0 [pb_r o, pb_r x] h (fun oc h' => oc = .inl none ∧ hi_St h o a e (if m = 8 then 8 else m + 1) (fun i => if i = 0 then x else y (i - 1)) h') := by
  obtain ⟨ho, hd⟩ := hW
  obtain ⟨n1, n2⟩ := hd.ne ho (by decide)
  have hxo : x ≠ o := fun z => by rw [z, ho] at hx; cases hx
  have hd2 : dq_W (pb_set h o (pb_ob 16 [pb_r a])) a e m y := hd.cg (pb_set_ne (Ne.symm n1)) (pb_set_ne (Ne.symm n2))
  obtain ⟨fsd, hob⟩ := hd2.obj
  refine pb_CtrY.of (by decide +kernel) rfl rfl q952 tX3_push_ok rfl ho ?_
  refine pb_Ey.aload rfl rfl ?_
  refine pb_Ey.getf rfl rfl pb_set_same rfl ?_
  refine pb_Ey.cV rfl rfl rfl hob rfl rfl (jd_size hd2) ⟨by omega, by omega, by omega⟩ (fun v h1 hq => ?_) (fun E q h1 hq => by cases hq.1)
  obtain ⟨e1, e2⟩ := hq
  rw [e2]
  cases e1
  refine pb_Ey.bipush rfl (by omega) ?_
  have last : ∀ (l2 : Option pb_V) (h1 : pb_H) (m' : Nat), dq_St (pb_set h o (pb_ob 16 [pb_r a])) a e m' y h1 → m' ≤ 7 → pb_Ey G mX3_push 3 0 0 (fun oc h' => oc = .inl none ∧ hi_St h o a e (m' + 1) (fun i => if i = 0 then x else y (i - 1)) h') o 0 0 23 [some (pb_r o), some (pb_r x), l2] [] h1 := by
    intro l2 h1 m' hq hm'
    obtain ⟨q1, q2, q3⟩ := hq
    obtain ⟨fs1, hob1⟩ := q1.obj
    have ho1 : h1.2 o = some (pb_ob 16 [pb_r a]) := (q3 o n1 n2).trans pb_set_same
    have hx9 := hd.ne hx (by decide)
    have hx1 : h1.2 x = some (pb_ob 1 fs) := by rw [q3 x hx9.1 hx9.2, pb_set_ne hxo]; exact hx
    refine pb_Ey.aload rfl rfl ?_
    refine pb_Ey.getf rfl rfl ho1 rfl ?_
    refine pb_Ey.aload rfl rfl ?_
    refine pb_Ey.cV rfl rfl rfl hob1 rfl rfl (jd_push q1 (by omega) hx1 (by decide)) ⟨by omega, by omega, by omega⟩ (fun v h2 hq => ?_) (fun E q h1 hq => by cases hq.1)
    obtain ⟨e1, r1, r2, r3⟩ := hq
    cases e1
    obtain ⟨f1, f2⟩ := hi_fin (h := h) (n' := m' + 1) (y' := fun i => if i = 0 then x else y (i - 1)) (h1 := h2) ho n1 n2 ⟨r1, r2.trans q2, fun b b1 b2 => (r3 b b1 b2).trans (q3 b b1 b2)⟩
    exact pb_Ey.vret rfl rfl f1 (by omega) (by omega) ⟨rfl, f2⟩
  refine pb_Ey.icmp_ne rfl (by omega) (by omega) (fun c => ?_) (fun c => ?_)
  · rw [if_neg (by omega)]
    exact last none _ m ⟨hd2, rfl, fun _ _ _ => rfl⟩ (by omega)
  · rw [if_pos (by omega)]
    obtain ⟨m', rfl⟩ : ∃ m', m = m' + 1 := ⟨m - 1, by omega⟩
    refine pb_Ey.aload rfl rfl ?_
    refine pb_Ey.getf rfl rfl pb_set_same rfl ?_
    refine pb_Ey.cV rfl rfl rfl hob rfl rfl (jd_removeLast hd2) ⟨by omega, by omega, by omega⟩ (fun v h1 hq => ?_) (fun E q h1 hq => by cases hq.1)
    obtain ⟨e1, q1⟩ := hq
    cases e1
    obtain ⟨fy, hy1⟩ := hy m' (by omega)
    have n3 := hd.ne hy1 (by decide)
    have hyo : y m' ≠ o := fun z => by rw [z, ho] at hy1; cases hy1
    have hy2 : h1.2 (y m') = some (pb_ob 1 fy) := by rw [q1.2.2 _ n3.1 n3.2, pb_set_ne hyo]; exact hy1
    refine pb_Ey.cast rfl rfl hy2 (fun r hr => by cases hr; rfl) ?_
    refine pb_Ey.astore rfl (by show 2 < 3; omega) rfl ?_
    have := last (some (pb_r (y m'))) h1 m' q1 (by omega)
    rw [show m' + 1 = 8 by omega] at this
    exact this
theorem hi_pop (hG : co_G G K) (hW : hi_W h o a e (m + 1) y) (hy : ∃ fs, h.2 (y 0) = some (pb_ob 1 fs)) : pb_CtrY G mX3_pop 4 0 0 [pb_r o] h (fun oc h' => oc = .inl (some (pb_r (y 0))) ∧ hi_St h o a e m (fun i => y (i + 1)) h') := by
  obtain ⟨ho, hd⟩ := hW
  obtain ⟨n1, n2⟩ := hd.ne ho (by decide)
  have hd2 : dq_W (pb_set h o (pb_ob 16 [pb_r a])) a e (m + 1) y := hd.cg (pb_set_ne (Ne.symm n1)) (pb_set_ne (Ne.symm n2))
  obtain ⟨fsd, hob⟩ := hd2.obj
  refine pb_CtrY.of (by decide +kernel) rfl rfl q1850 tX3_pop_ok rfl ho ?_
  refine pb_Ey.aload rfl rfl ?_
  refine pb_Ey.getf rfl rfl pb_set_same rfl ?_
  refine pb_Ey.cV rfl rfl rfl hob rfl rfl (jd_isEmpty hd2) ⟨by omega, by omega, by omega⟩ (fun v h1 hq => ?_) (fun E q h1 hq => by cases hq.1)
  obtain ⟨e1, e2⟩ := hq
  rw [e2]
  cases e1
  rw [if_neg (by omega)]
  refine pb_Ey.if_ne rfl (by omega) (fun c => absurd rfl c) (fun _ => ?_)
  refine pb_Ey.iconst rfl ?_
  refine pb_Ey.goto rfl ?_
  refine pb_Ey.cS rfl rfl rfl ck_st1 ⟨by omega, by omega, by omega⟩ (fun v h1 hq => ?_) (fun E q h1 hq => by cases hq.1)
  obtain ⟨e1, e2⟩ := hq
  rw [e2]
  cases e1
  refine pb_Ey.aload rfl rfl ?_
  refine pb_Ey.getf rfl rfl pb_set_same rfl ?_
  refine pb_Ey.cV rfl rfl rfl hob rfl rfl (jd_pop hd2) ⟨by omega, by omega, by omega⟩ (fun v h1 hq => ?_) (fun E q h1 hq => by cases hq.1)
  obtain ⟨e1, q1⟩ := hq
  cases e1
  obtain ⟨fy, hy1⟩ := hy
  have n3 := hd.ne hy1 (by decide)
  have hyo : y 0 ≠ o := fun z => by rw [z, ho] at hy1; cases hy1
  have hy2 : h1.2 (y 0) = some (pb_ob 1 fy) := by rw [q1.2.2 _ n3.1 n3.2, pb_set_ne hyo]; exact hy1
  refine pb_Ey.cast rfl rfl hy2 (fun r hr => by cases hr; rfl) ?_
  obtain ⟨f1, f2⟩ := hi_fin ho n1 n2 q1
  exact pb_Ey.aret rfl rfl f1 (by omega) (by omega) ⟨rfl, f2⟩
theorem hi_pop0 (hG : co_G G K) (hW : hi_W h o a e 0 y) : pb_CtrY G mX3_pop 8 1 6 [pb_r o] h (th_Q xISE h) := by
  obtain ⟨ho, hd⟩ := hW
  obtain ⟨n1, n2⟩ := hd.ne ho (by decide)
  have hd2 : dq_W (pb_set h o (pb_ob 16 [pb_r a])) a e 0 y := hd.cg (pb_set_ne (Ne.symm n1)) (pb_set_ne (Ne.symm n2))
  obtain ⟨fsd, hob⟩ := hd2.obj
  refine pb_CtrY.of (by decide +kernel) rfl rfl q1850 tX3_pop_ok rfl ho ?_
  refine pb_Ey.aload rfl rfl ?_
  refine pb_Ey.getf rfl rfl pb_set_same rfl ?_
  refine pb_Ey.cV rfl rfl rfl hob rfl rfl (jd_isEmpty hd2) ⟨by omega, by omega, by omega⟩ (fun v h1 hq => ?_) (fun E q h1 hq => by cases hq.1)
  obtain ⟨e1, e2⟩ := hq
  rw [e2]
  cases e1
  rw [if_pos (by omega)]
  refine pb_Ey.if_ne rfl (by omega) (fun _ => ?_) (fun c => absurd c (by decide))
  refine pb_Ey.iconst rfl ?_
  refine pb_Ey.cS rfl rfl rfl (ck_st0 hG) ⟨by omega, by omega, by omega⟩ (fun v h1 hq => ?_) (fun E q h1 hq => ?_)
  · obtain ⟨q, e1, e2⟩ := hq
    cases e1
  · obtain ⟨q9, e1, e2⟩ := hq
    cases e1
    refine pb_Xy.out (e2.at pb_set_same) (by omega) (by omega) ⟨_, rfl, e2.1, fun b c hb _ => ?_⟩
    by_cases cb : b = o
    · subst cb; rw [pb_set_same, ← ho, hb]
    · rw [pb_set_ne cb]
      exact e2.at ((pb_set_ne cb).trans hb)
end HIST
