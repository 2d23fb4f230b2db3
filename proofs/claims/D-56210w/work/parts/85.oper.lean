set_option maxRecDepth 100000
/-! AN OPERATION by its number (as sp_op has it; 11 sets a slip) -/
def op_c (k : Nat) : Int := match k with
  | 0 => 98
  | 1 => 102
  | 2 => 109
  | 3 => 103
  | 4 => 108
  | 5 => 99
  | 6 => 112
  | 7 => 104
  | 8 => 116
  | 9 => 111
  | 10 => 100
  | _ => 115
def op_sp (f : Nat → Int) (k : Nat) (x y z : Int) : Int × Int × (Nat → Int) := match k with
  | 0 => sp_hull f
  | 1 => sp_frame f x y z
  | 2 => sp_mirror f x
  | 3 => sp_cargo f x y
  | 4 => ((sp_launch f x).1, (sp_launch f x).2.1, (sp_launch f x).2.2.1)
  | 5 => sp_caulk f x y
  | 6 => sp_pump f x y
  | 7 => sp_pass f x
  | 8 => sp_tide f x y
  | 9 => sp_order f x y z
  | 10 => sp_deliver f x y
  | _ => sp_slip f x y
def op_w (f : Nat → Int) (k : Nat) (x : Int) : Int := match k with
  | 4 => (sp_launch f x).2.2.2
  | _ => 0
def op_ex (k : Nat) : Int → String := match k with
  | 0 => ex_st
  | 1 => ex_hull
  | 2 => ex_hull2
  | 3 => ex_hull
  | 4 => ex_lau
  | 5 => ex_hull2
  | 6 => ex_hull
  | 7 => ex_arg
  | 8 => ex_arg
  | 9 => ex_ord
  | 10 => ex_del
  | _ => ex_arg
theorem ex_st_ne (c : Int) : ex_st c ≠ xLR := by
  unfold ex_st
  decide +kernel
theorem ex_hull_ne (c : Int) : ex_hull c ≠ xLR := by
  unfold ex_hull
  split
  · decide +kernel
  · split <;> decide +kernel
theorem ex_hull2_ne (c : Int) : ex_hull2 c ≠ xLR := by
  unfold ex_hull2
  split <;> decide +kernel
theorem ex_arg_ne (c : Int) : ex_arg c ≠ xLR := by
  unfold ex_arg
  decide +kernel
theorem ex_ord_ne (c : Int) : ex_ord c ≠ xLR := by
  unfold ex_ord
  split <;> decide +kernel
theorem ex_del_ne (c : Int) : ex_del c ≠ xLR := by
  unfold ex_del
  split
  · decide +kernel
  · split <;> decide +kernel
section OPER
variable {G : pb_G} {K : co_K} {h : pb_H} {A : Nat → Nat} {f : Nat → Int} {t lo o b : Nat}
theorem op_init {N : Nat} {g : Nat → Int} {c : Int} (hc : 0 ≤ c ∧ c < 65536) (ho : h.2 o = some (pb_ob 4 [pb_i 0, pb_i 0, pb_i 0, pb_i 0])) (hb : h.2 b = some (pb_aI 0 N g)) (hN : N ≤ 3) : pb_Ctr G mX5_init 1 0 0 [pb_r o, pb_i c, pb_r b] h (fun oc h' => oc = .inl none ∧ h'.1 = h.1 ∧ h'.2 o = some (pb_ob 4 [pb_i c, pb_i (if 0 < N then g 0 else 0), pb_i (if 1 < N then g 1 else 0), pb_i (if 2 < N then g 2 else 0)]) ∧ ∀ x, x ≠ o → h'.2 x = h.2 x) := by
  have nbo : b ≠ o := fun e => by rw [e, ho] at hb; cases hb
  refine pb_Ctr.of rfl rfl rfl tX5_init_ok rfl ?_
  (try refine pb_Ex.run rfl ?_)
  refine pb_Ex.objI rfl rfl rfl (by omega) ?_
  refine pb_Ex.run rfl ?_
  refine pb_Ex.putfF rfl rfl (ho) (Or.inl rfl) (fun r hr => by cases hr; rfl) rfl (by first | trivial | exact Or.inl rfl | exact Or.inr rfl | (show _ ∨ _; omega) | (show _ ∧ _; omega)) ?_
  (try refine pb_Ex.run rfl ?_)
  have fin3 : ∀ (h2 : pb_H) (v1 v2 v3 : Int), v3 = (if 2 < N then g 2 else 0) → h2.1 = h.1 → h2.2 o = some (pb_ob 4 [pb_i c, pb_i v1, pb_i v2, pb_i 0]) → v1 = (if 0 < N then g 0 else 0) → v2 = (if 1 < N then g 1 else 0) → (∀ x, x ≠ o → h2.2 x = h.2 x) → pb_Ex G mX5_init 1 0 0 (fun oc h' => oc = .inl none ∧ h'.1 = h.1 ∧ h'.2 o = some (pb_ob 4 [pb_i c, pb_i (if 0 < N then g 0 else 0), pb_i (if 1 < N then g 1 else 0), pb_i (if 2 < N then g 2 else 0)]) ∧ ∀ x, x ≠ o → h'.2 x = h.2 x) 0 0 56 [some (pb_r o), some (pb_i c), some (pb_r b)] [pb_i v3, pb_r o] h2 := by
    intro h2 v1 v2 v3 e3 s1 o1 e1 e2 k1
    refine pb_Ex.putfF rfl rfl (o1) (Or.inl rfl) (fun r hr => by cases hr; rfl) rfl (by first | trivial | exact Or.inl rfl | exact Or.inr rfl | (show _ ∨ _; omega) | (show _ ∧ _; omega)) ?_
    (try refine pb_Ex.run rfl ?_)
    refine pb_Ex.vret rfl rfl (by omega) (by omega) (⟨rfl, s1, by rw [pb_set_same, ← e1, ← e2, ← e3]; rfl, fun x hx => by rw [pb_set_ne hx]; exact k1 x hx⟩)
  have fin2 : ∀ (h2 : pb_H) (v1 v2 : Int), v2 = (if 1 < N then g 1 else 0) → h2.1 = h.1 → h2.2 o = some (pb_ob 4 [pb_i c, pb_i v1, pb_i 0, pb_i 0]) → v1 = (if 0 < N then g 0 else 0) → (∀ x, x ≠ o → h2.2 x = h.2 x) → pb_Ex G mX5_init 1 0 0 (fun oc h' => oc = .inl none ∧ h'.1 = h.1 ∧ h'.2 o = some (pb_ob 4 [pb_i c, pb_i (if 0 < N then g 0 else 0), pb_i (if 1 < N then g 1 else 0), pb_i (if 2 < N then g 2 else 0)]) ∧ ∀ x, x ≠ o → h'.2 x = h.2 x) 0 0 39 [some (pb_r o), some (pb_i c), some (pb_r b)] [pb_i v2, pb_r o] h2 := by
    intro h2 v1 v2 e2 s1 o1 e1 k1
    refine pb_Ex.putfF rfl rfl (o1) (Or.inl rfl) (fun r hr => by cases hr; rfl) rfl (by first | trivial | exact Or.inl rfl | exact Or.inr rfl | (show _ ∨ _; omega) | (show _ ∧ _; omega)) ?_
    (try refine pb_Ex.run rfl ?_)
    have hb2 : (pb_set h2 o (pb_ob 4 ([pb_i c, pb_i v1, pb_i 0, pb_i 0].set 2 (pb_i v2)))).2 b = some (pb_aI 0 N g) := by rw [pb_set_ne nbo, k1 b nbo]; exact hb
    refine pb_Ex.alen0 (N := N) (kd := 0) rfl (hb2) rfl (by omega) ?_
    (try refine pb_Ex.run rfl ?_)
    refine pb_Ex.icmp_le rfl (by omega) (by omega) (fun q => ?_) (fun q => ?_)
    · refine pb_Ex.run rfl ?_
      exact fin3 _ v1 v2 0 (by rw [if_neg (by omega)]) s1 pb_set_same e1 e2 (fun x hx => by rw [pb_set_ne hx]; exact k1 x hx)
    · refine pb_Ex.run rfl ?_
      refine pb_Ex.iat (2) rfl (hb2) (by omega) (by omega) ?_
      (try refine pb_Ex.run rfl ?_)
      exact fin3 _ v1 v2 (g 2) (by rw [if_pos (by omega)]) s1 pb_set_same e1 e2 (fun x hx => by rw [pb_set_ne hx]; exact k1 x hx)
  have fin1 : ∀ (h2 : pb_H) (v1 : Int), v1 = (if 0 < N then g 0 else 0) → h2.1 = h.1 → h2.2 o = some (pb_ob 4 [pb_i c, pb_i 0, pb_i 0, pb_i 0]) → (∀ x, x ≠ o → h2.2 x = h.2 x) → pb_Ex G mX5_init 1 0 0 (fun oc h' => oc = .inl none ∧ h'.1 = h.1 ∧ h'.2 o = some (pb_ob 4 [pb_i c, pb_i (if 0 < N then g 0 else 0), pb_i (if 1 < N then g 1 else 0), pb_i (if 2 < N then g 2 else 0)]) ∧ ∀ x, x ≠ o → h'.2 x = h.2 x) 0 0 22 [some (pb_r o), some (pb_i c), some (pb_r b)] [pb_i v1, pb_r o] h2 := by
    intro h2 v1 e1 s1 o1 k1
    refine pb_Ex.putfF rfl rfl (o1) (Or.inl rfl) (fun r hr => by cases hr; rfl) rfl (by first | trivial | exact Or.inl rfl | exact Or.inr rfl | (show _ ∨ _; omega) | (show _ ∧ _; omega)) ?_
    (try refine pb_Ex.run rfl ?_)
    have hb2 : (pb_set h2 o (pb_ob 4 ([pb_i c, pb_i 0, pb_i 0, pb_i 0].set 1 (pb_i v1)))).2 b = some (pb_aI 0 N g) := by rw [pb_set_ne nbo, k1 b nbo]; exact hb
    refine pb_Ex.alen0 (N := N) (kd := 0) rfl (hb2) rfl (by omega) ?_
    (try refine pb_Ex.run rfl ?_)
    refine pb_Ex.icmp_le rfl (by omega) (by omega) (fun q => ?_) (fun q => ?_)
    · refine pb_Ex.run rfl ?_
      exact fin2 _ v1 0 (by rw [if_neg (by omega)]) s1 pb_set_same e1 (fun x hx => by rw [pb_set_ne hx]; exact k1 x hx)
    · refine pb_Ex.run rfl ?_
      refine pb_Ex.iat (1) rfl (hb2) (by omega) (by omega) ?_
      (try refine pb_Ex.run rfl ?_)
      exact fin2 _ v1 (g 1) (by rw [if_pos (by omega)]) s1 pb_set_same e1 (fun x hx => by rw [pb_set_ne hx]; exact k1 x hx)
  have hb2 : (pb_set h o (pb_ob 4 ([pb_i 0, pb_i 0, pb_i 0, pb_i 0].set 0 (pb_i c)))).2 b = some (pb_aI 0 N g) := by rw [pb_set_ne nbo]; exact hb
  refine pb_Ex.alen0 (N := N) (kd := 0) rfl (hb2) rfl (by omega) ?_
  (try refine pb_Ex.run rfl ?_)
  refine pb_Ex.if_le rfl (by omega) (fun q => ?_) (fun q => ?_)
  · refine pb_Ex.run rfl ?_
    exact fin1 _ 0 (by rw [if_neg (by omega)]) rfl pb_set_same (fun x hx => by rw [pb_set_ne hx])
  · refine pb_Ex.run rfl ?_
    refine pb_Ex.iat (0) rfl (hb2) (by omega) (by omega) ?_
    (try refine pb_Ex.run rfl ?_)
    exact fin1 _ (g 0) (by rw [if_pos (by omega)]) rfl pb_set_same (fun x hx => by rw [pb_set_ne hx])
theorem op_apply (hG : co_G G K) (hK : co_W K h) (hW : yd_W K h A f) (ok : ya_ok t f) (ht : t + 99 ≤ 200000) (hJ : yd_J K A (f 0).toNat lo) (hlo : lo ≤ h.1) (hloG : pb_b G ≤ lo) (hD : ∀ x, h.1 ≤ x → co_D K x) (k : Nat) (hk : k < 12) (x y z : Int) (hx : pb_rg x) (hy : pb_rg y) (hz : pb_rg z) (hop : h.2 o = some (pb_ob 4 [pb_i (op_c k), pb_i x, pb_i y, pb_i z])) : pb_Ctr G mX5_apply 10 595 1189 [pb_r o, pb_r (A 0)] h (op_Q K h A lo (op_ex k) (op_sp f k x y z) (op_w f k x)) := by
  refine pb_Ctr.of rfl rfl rfl tX5_apply_ok rfl ?_
  (try refine pb_Ex.run rfl ?_)
  refine pb_Ex.getf rfl rfl hop rfl ?_
  (try refine pb_Ex.run rfl ?_)
  match k, hk with
  | 0, _ =>
    show pb_Ex G mX5_apply 10 595 1189 (op_Q K h A lo ex_st (sp_hull f) (op_w f 0 x)) _ _ _ _ _ _
    refine pb_Ex.tswI 96 dX5_apply_4 (by decide) (by decide) (by decide) (off := 92) (by decide) (by decide) ?_
    refine pb_Ex.run rfl ?_
    refine pb_Ex.cV rfl rfl rfl rfl hW.1 rfl rfl (yd_beginHull hG hK hW ok hJ hlo hD) ⟨by omega, by omega, by omega⟩ (fun v h2 hq => ?_) (fun E q h2 hq => pb_Xx.out rfl (by omega) (by omega) (hq.op ex_st_ne))
    have hq2 : op_Q K h A lo ex_st (sp_hull f) (op_w f 0 x) (.inl v) h2 := (hq.op ex_st_ne)
    obtain ⟨v', rfl⟩ : ∃ v' : Int, v = some (pb_i v') := by
      rcases hq2.2 with ⟨-, e, -⟩ | ⟨-, q, e, -⟩
      · cases e; exact ⟨_, rfl⟩
      · cases e
    (try refine pb_Ex.run rfl ?_)
    refine pb_Ex.iret rfl rfl (by omega) (by omega) (hq2)
  | 1, _ =>
    show pb_Ex G mX5_apply 10 595 1189 (op_Q K h A lo ex_hull (sp_frame f x y z) (op_w f 1 x)) _ _ _ _ _ _
    refine pb_Ex.tswI 101 dX5_apply_4 (by decide) (by decide) (by decide) (off := 97) (by decide) (by decide) ?_
    refine pb_Ex.run rfl ?_
    refine pb_Ex.getf rfl rfl hop rfl ?_
    (try refine pb_Ex.run rfl ?_)
    refine pb_Ex.getf rfl rfl hop rfl ?_
    (try refine pb_Ex.run rfl ?_)
    refine pb_Ex.getf rfl rfl hop rfl ?_
    (try refine pb_Ex.run rfl ?_)
    refine pb_Ex.cV rfl rfl rfl rfl hW.1 rfl rfl (yd_addFrame hG hK hW ok hJ hlo x y z hx hy hz) ⟨by omega, by omega, by omega⟩ (fun v h2 hq => ?_) (fun E q h2 hq => pb_Xx.out rfl (by omega) (by omega) (hq.op ex_hull_ne))
    have hq2 : op_Q K h A lo ex_hull (sp_frame f x y z) (op_w f 1 x) (.inl v) h2 := (hq.op ex_hull_ne)
    obtain ⟨v', rfl⟩ : ∃ v' : Int, v = some (pb_i v') := by
      rcases hq2.2 with ⟨-, e, -⟩ | ⟨-, q, e, -⟩
      · cases e; exact ⟨_, rfl⟩
      · cases e
    (try refine pb_Ex.run rfl ?_)
    refine pb_Ex.iret rfl rfl (by omega) (by omega) (hq2)
  | 2, _ =>
    show pb_Ex G mX5_apply 10 595 1189 (op_Q K h A lo ex_hull2 (sp_mirror f x) (op_w f 2 x)) _ _ _ _ _ _
    refine pb_Ex.tswI 118 dX5_apply_4 (by decide) (by decide) (by decide) (off := 114) (by decide) (by decide) ?_
    refine pb_Ex.run rfl ?_
    refine pb_Ex.getf rfl rfl hop rfl ?_
    (try refine pb_Ex.run rfl ?_)
    refine pb_Ex.cV rfl rfl rfl rfl hW.1 rfl rfl (yd_mirror hG hK hW ok hJ x hx) ⟨by omega, by omega, by omega⟩ (fun v h2 hq => ?_) (fun E q h2 hq => pb_Xx.out rfl (by omega) (by omega) (hq.op ex_hull2_ne))
    have hq2 : op_Q K h A lo ex_hull2 (sp_mirror f x) (op_w f 2 x) (.inl v) h2 := (hq.op ex_hull2_ne)
    obtain ⟨v', rfl⟩ : ∃ v' : Int, v = some (pb_i v') := by
      rcases hq2.2 with ⟨-, e, -⟩ | ⟨-, q, e, -⟩
      · cases e; exact ⟨_, rfl⟩
      · cases e
    (try refine pb_Ex.run rfl ?_)
    refine pb_Ex.iret rfl rfl (by omega) (by omega) (hq2)
  | 3, _ =>
    show pb_Ex G mX5_apply 10 595 1189 (op_Q K h A lo ex_hull (sp_cargo f x y) (op_w f 3 x)) _ _ _ _ _ _
    refine pb_Ex.tswI 127 dX5_apply_4 (by decide) (by decide) (by decide) (off := 123) (by decide) (by decide) ?_
    refine pb_Ex.run rfl ?_
    refine pb_Ex.getf rfl rfl hop rfl ?_
    (try refine pb_Ex.run rfl ?_)
    refine pb_Ex.getf rfl rfl hop rfl ?_
    (try refine pb_Ex.run rfl ?_)
    refine pb_Ex.cV rfl rfl rfl rfl hW.1 rfl rfl (yd_setCargo hG hK hW ok hJ hlo x y hx hy) ⟨by omega, by omega, by omega⟩ (fun v h2 hq => ?_) (fun E q h2 hq => pb_Xx.out rfl (by omega) (by omega) (hq.op ex_hull_ne))
    have hq2 : op_Q K h A lo ex_hull (sp_cargo f x y) (op_w f 3 x) (.inl v) h2 := (hq.op ex_hull_ne)
    obtain ⟨v', rfl⟩ : ∃ v' : Int, v = some (pb_i v') := by
      rcases hq2.2 with ⟨-, e, -⟩ | ⟨-, q, e, -⟩
      · cases e; exact ⟨_, rfl⟩
      · cases e
    (try refine pb_Ex.run rfl ?_)
    refine pb_Ex.iret rfl rfl (by omega) (by omega) (hq2)
  | 4, _ =>
    show pb_Ex G mX5_apply 10 595 1189 (op_Q K h A lo ex_lau (((sp_launch f x).1, (sp_launch f x).2.1, (sp_launch f x).2.2.1)) (op_w f 4 x)) _ _ _ _ _ _
    refine pb_Ex.tswI 140 dX5_apply_4 (by decide) (by decide) (by decide) (off := 136) (by decide) (by decide) ?_
    refine pb_Ex.run rfl ?_
    refine pb_Ex.getf rfl rfl hop rfl ?_
    (try refine pb_Ex.run rfl ?_)
    refine pb_Ex.cV rfl rfl rfl rfl hW.1 rfl rfl (yd_launch hG hK hW ok hJ hlo x hx) ⟨by omega, by omega, by omega⟩ (fun v h2 hq => ?_) (fun E q h2 hq => pb_Xx.out rfl (by omega) (by omega) hq)
    have hq2 : op_Q K h A lo ex_lau (((sp_launch f x).1, (sp_launch f x).2.1, (sp_launch f x).2.2.1)) (op_w f 4 x) (.inl v) h2 := hq
    obtain ⟨v', rfl⟩ : ∃ v' : Int, v = some (pb_i v') := by
      rcases hq2.2 with ⟨-, e, -⟩ | ⟨-, q, e, -⟩
      · cases e; exact ⟨_, rfl⟩
      · cases e
    (try refine pb_Ex.run rfl ?_)
    refine pb_Ex.iret rfl rfl (by omega) (by omega) (hq2)
  | 5, _ =>
    show pb_Ex G mX5_apply 10 595 1189 (op_Q K h A lo ex_hull2 (sp_caulk f x y) (op_w f 5 x)) _ _ _ _ _ _
    refine pb_Ex.tswI 149 dX5_apply_4 (by decide) (by decide) (by decide) (off := 145) (by decide) (by decide) ?_
    refine pb_Ex.run rfl ?_
    refine pb_Ex.getf rfl rfl hop rfl ?_
    (try refine pb_Ex.run rfl ?_)
    refine pb_Ex.getf rfl rfl hop rfl ?_
    (try refine pb_Ex.run rfl ?_)
    refine pb_Ex.cV rfl rfl rfl rfl hW.1 rfl rfl (yd_caulk hG hK hW ok hJ x y hx hy) ⟨by omega, by omega, by omega⟩ (fun v h2 hq => ?_) (fun E q h2 hq => pb_Xx.out rfl (by omega) (by omega) (hq.op ex_hull2_ne))
    have hq2 : op_Q K h A lo ex_hull2 (sp_caulk f x y) (op_w f 5 x) (.inl v) h2 := (hq.op ex_hull2_ne)
    obtain ⟨v', rfl⟩ : ∃ v' : Int, v = some (pb_i v') := by
      rcases hq2.2 with ⟨-, e, -⟩ | ⟨-, q, e, -⟩
      · cases e; exact ⟨_, rfl⟩
      · cases e
    (try refine pb_Ex.run rfl ?_)
    refine pb_Ex.iret rfl rfl (by omega) (by omega) (hq2)
  | 6, _ =>
    show pb_Ex G mX5_apply 10 595 1189 (op_Q K h A lo ex_hull (sp_pump f x y) (op_w f 6 x)) _ _ _ _ _ _
    refine pb_Ex.tswI 162 dX5_apply_4 (by decide) (by decide) (by decide) (off := 158) (by decide) (by decide) ?_
    refine pb_Ex.run rfl ?_
    refine pb_Ex.getf rfl rfl hop rfl ?_
    (try refine pb_Ex.run rfl ?_)
    refine pb_Ex.getf rfl rfl hop rfl ?_
    (try refine pb_Ex.run rfl ?_)
    refine pb_Ex.cV rfl rfl rfl rfl hW.1 rfl rfl (yd_pump hG hK hW ok ht hJ hlo x y hx hy) ⟨by omega, by omega, by omega⟩ (fun v h2 hq => ?_) (fun E q h2 hq => pb_Xx.out rfl (by omega) (by omega) (hq.op ex_hull_ne))
    have hq2 : op_Q K h A lo ex_hull (sp_pump f x y) (op_w f 6 x) (.inl v) h2 := (hq.op ex_hull_ne)
    obtain ⟨v', rfl⟩ : ∃ v' : Int, v = some (pb_i v') := by
      rcases hq2.2 with ⟨-, e, -⟩ | ⟨-, q, e, -⟩
      · cases e; exact ⟨_, rfl⟩
      · cases e
    (try refine pb_Ex.run rfl ?_)
    refine pb_Ex.iret rfl rfl (by omega) (by omega) (hq2)
  | 7, _ =>
    show pb_Ex G mX5_apply 10 595 1189 (op_Q K h A lo ex_arg (sp_pass f x) (op_w f 7 x)) _ _ _ _ _ _
    refine pb_Ex.tswI 175 dX5_apply_4 (by decide) (by decide) (by decide) (off := 171) (by decide) (by decide) ?_
    refine pb_Ex.run rfl ?_
    refine pb_Ex.getf rfl rfl hop rfl ?_
    (try refine pb_Ex.run rfl ?_)
    refine pb_Ex.cV rfl rfl rfl rfl hW.1 rfl rfl (yd_pass hG hK hW ok ht hJ hlo hloG x hx) ⟨by omega, by omega, by omega⟩ (fun v h2 hq => ?_) (fun E q h2 hq => pb_Xx.out rfl (by omega) (by omega) (hq.op ex_arg_ne))
    have hq2 : op_Q K h A lo ex_arg (sp_pass f x) (op_w f 7 x) (.inl v) h2 := (hq.op ex_arg_ne)
    obtain ⟨v', rfl⟩ : ∃ v' : Int, v = some (pb_i v') := by
      rcases hq2.2 with ⟨-, e, -⟩ | ⟨-, q, e, -⟩
      · cases e; exact ⟨_, rfl⟩
      · cases e
    (try refine pb_Ex.run rfl ?_)
    refine pb_Ex.iret rfl rfl (by omega) (by omega) (hq2)
  | 8, _ =>
    show pb_Ex G mX5_apply 10 595 1189 (op_Q K h A lo ex_arg (sp_tide f x y) (op_w f 8 x)) _ _ _ _ _ _
    refine pb_Ex.tswI 184 dX5_apply_4 (by decide) (by decide) (by decide) (off := 180) (by decide) (by decide) ?_
    refine pb_Ex.run rfl ?_
    refine pb_Ex.getf rfl rfl hop rfl ?_
    (try refine pb_Ex.run rfl ?_)
    refine pb_Ex.getf rfl rfl hop rfl ?_
    (try refine pb_Ex.run rfl ?_)
    refine pb_Ex.cV rfl rfl rfl rfl hW.1 rfl rfl (yd_setTide hG hK hW ok hJ hlo x y hx hy) ⟨by omega, by omega, by omega⟩ (fun v h2 hq => ?_) (fun E q h2 hq => pb_Xx.out rfl (by omega) (by omega) (hq.op ex_arg_ne))
    have hq2 : op_Q K h A lo ex_arg (sp_tide f x y) (op_w f 8 x) (.inl v) h2 := (hq.op ex_arg_ne)
    obtain ⟨v', rfl⟩ : ∃ v' : Int, v = some (pb_i v') := by
      rcases hq2.2 with ⟨-, e, -⟩ | ⟨-, q, e, -⟩
      · cases e; exact ⟨_, rfl⟩
      · cases e
    (try refine pb_Ex.run rfl ?_)
    refine pb_Ex.iret rfl rfl (by omega) (by omega) (hq2)
  | 9, _ =>
    show pb_Ex G mX5_apply 10 595 1189 (op_Q K h A lo ex_ord (sp_order f x y z) (op_w f 9 x)) _ _ _ _ _ _
    refine pb_Ex.tswI 210 dX5_apply_4 (by decide) (by decide) (by decide) (off := 206) (by decide) (by decide) ?_
    refine pb_Ex.run rfl ?_
    refine pb_Ex.getf rfl rfl hop rfl ?_
    (try refine pb_Ex.run rfl ?_)
    refine pb_Ex.getf rfl rfl hop rfl ?_
    (try refine pb_Ex.run rfl ?_)
    refine pb_Ex.getf rfl rfl hop rfl ?_
    (try refine pb_Ex.run rfl ?_)
    refine pb_Ex.cV rfl rfl rfl rfl hW.1 rfl rfl (yd_addOrder hG hK hW ok hJ hlo x y z hx hy hz) ⟨by omega, by omega, by omega⟩ (fun v h2 hq => ?_) (fun E q h2 hq => pb_Xx.out rfl (by omega) (by omega) (hq.op ex_ord_ne))
    have hq2 : op_Q K h A lo ex_ord (sp_order f x y z) (op_w f 9 x) (.inl v) h2 := (hq.op ex_ord_ne)
    obtain ⟨v', rfl⟩ : ∃ v' : Int, v = some (pb_i v') := by
      rcases hq2.2 with ⟨-, e, -⟩ | ⟨-, q, e, -⟩
      · cases e; exact ⟨_, rfl⟩
      · cases e
    (try refine pb_Ex.run rfl ?_)
    refine pb_Ex.iret rfl rfl (by omega) (by omega) (hq2)
  | 10, _ =>
    show pb_Ex G mX5_apply 10 595 1189 (op_Q K h A lo ex_del (sp_deliver f x y) (op_w f 10 x)) _ _ _ _ _ _
    refine pb_Ex.tswI 227 dX5_apply_4 (by decide) (by decide) (by decide) (off := 223) (by decide) (by decide) ?_
    refine pb_Ex.run rfl ?_
    refine pb_Ex.getf rfl rfl hop rfl ?_
    (try refine pb_Ex.run rfl ?_)
    refine pb_Ex.getf rfl rfl hop rfl ?_
    (try refine pb_Ex.run rfl ?_)
    refine pb_Ex.cV rfl rfl rfl rfl hW.1 rfl rfl (yd_deliver hG hK hW ok hJ x y hx hy) ⟨by omega, by omega, by omega⟩ (fun v h2 hq => ?_) (fun E q h2 hq => pb_Xx.out rfl (by omega) (by omega) (hq.op ex_del_ne))
    have hq2 : op_Q K h A lo ex_del (sp_deliver f x y) (op_w f 10 x) (.inl v) h2 := (hq.op ex_del_ne)
    obtain ⟨v', rfl⟩ : ∃ v' : Int, v = some (pb_i v') := by
      rcases hq2.2 with ⟨-, e, -⟩ | ⟨-, q, e, -⟩
      · cases e; exact ⟨_, rfl⟩
      · cases e
    (try refine pb_Ex.run rfl ?_)
    refine pb_Ex.iret rfl rfl (by omega) (by omega) (hq2)
  | 11, _ =>
    show pb_Ex G mX5_apply 10 595 1189 (op_Q K h A lo ex_arg (sp_slip f x y) (op_w f 11 x)) _ _ _ _ _ _
    refine pb_Ex.tswI 197 dX5_apply_4 (by decide) (by decide) (by decide) (off := 193) (by decide) (by decide) ?_
    refine pb_Ex.run rfl ?_
    refine pb_Ex.getf rfl rfl hop rfl ?_
    (try refine pb_Ex.run rfl ?_)
    refine pb_Ex.getf rfl rfl hop rfl ?_
    (try refine pb_Ex.run rfl ?_)
    refine pb_Ex.cV rfl rfl rfl rfl hW.1 rfl rfl (yd_setSlip hG hK hW ok hJ hlo x y hx hy) ⟨by omega, by omega, by omega⟩ (fun v h2 hq => ?_) (fun E q h2 hq => pb_Xx.out rfl (by omega) (by omega) (hq.op ex_arg_ne))
    have hq2 : op_Q K h A lo ex_arg (sp_slip f x y) (op_w f 11 x) (.inl v) h2 := (hq.op ex_arg_ne)
    obtain ⟨v', rfl⟩ : ∃ v' : Int, v = some (pb_i v') := by
      rcases hq2.2 with ⟨-, e, -⟩ | ⟨-, q, e, -⟩
      · cases e; exact ⟨_, rfl⟩
      · cases e
    (try refine pb_Ex.run rfl ?_)
    refine pb_Ex.iret rfl rfl (by omega) (by omega) (hq2)
end OPER
