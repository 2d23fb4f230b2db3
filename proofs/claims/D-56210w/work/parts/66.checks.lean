set_option maxRecDepth 100000
/-! CHECKS, FRAMES, ORDERS -/
/-- an E is thrown; no old cell has changed -/
def th_Q (E : String) (h : pb_H) : pb_O → pb_H → Prop := fun oc h' => ∃ q, oc = .inr (E, q) ∧ fr_x h h'
section ROWS66
variable {G : pb_G} {M M2 : pb_M} {n C S n2 C2 S2 : Nat} {Q Q2 : pb_O → pb_H → Prop} {k u pc : Nat} {L : List (Option pb_V)} {st a rest : List pb_V} {h : pb_H}
theorem pb_Ex.tS {nx tg idx np : Nat} {E : String} (hi : pb_ig (pb_tb M) pc = some (.invokestatic idx, nx, tg)) (hl : pb_lk3 (pb_lt M.1) idx = some (0, M2, np)) (hst : pb_take np st [] = some (a, rest)) (hsm : pb_sm rest = true) (hc : pb_Ctr G M2 n2 C2 S2 a h (th_Q E h)) (hr : n2 < n) (hk9 : k + C2 ≤ C) (hu9 : u + S2 ≤ S) (kx : ∀ (q : Nat) (h' : pb_H), fr_x h h' → pb_Xx G M n C S Q (k + C2) (u + S2) pc L E q h') : pb_Ex G M n C S Q k u pc L st h :=
  pb_Ex.cS hi hl hst hsm hc ⟨hr, hk9, hu9⟩ (fun v' h' hq => by obtain ⟨q, e1, e2⟩ := hq; cases e1) (fun E' q' h' hq => by obtain ⟨q, e1, e2⟩ := hq; cases e1; exact kx _ h' e2)
theorem pb_Ex.tV {nx tg idx np b ci : Nat} {fs As : List pb_V} {E : String} (hi : pb_ig (pb_tb M) pc = some (.invokevirtual idx, nx, tg)) (hl : pb_lk3 (pb_lt M.1) idx = some (1, M2, np)) (hst : pb_take (np + 1) st [] = some (pb_r b :: As, rest)) (hsm : pb_sm rest = true) (hb9 : h.2 b = some (pb_ob ci fs)) (hcl : Nat.beq (pb_clo ci) M2.1 = true) (hcn : M2.2.1.cls = pb_cn M2.1) (hc : pb_Ctr G M2 n2 C2 S2 (pb_r b :: As) h (th_Q E h)) (hr : n2 < n) (hk9 : k + C2 ≤ C) (hu9 : u + S2 ≤ S) (kx : ∀ (q : Nat) (h' : pb_H), fr_x h h' → pb_Xx G M n C S Q (k + C2) (u + S2) pc L E q h') : pb_Ex G M n C S Q k u pc L st h :=
  pb_Ex.cV hi hl hst hsm hb9 hcl hcn hc ⟨hr, hk9, hu9⟩ (fun v' h' hq => by obtain ⟨q, e1, e2⟩ := hq; cases e1) (fun E' q' h' hq => by obtain ⟨q, e1, e2⟩ := hq; cases e1; exact kx _ h' e2)
end ROWS66
abbrev xISE : String := "java/lang/IllegalStateException"
abbrev xIOB : String := "java/lang/IndexOutOfBoundsException"
abbrev xIAE : String := "java/lang/IllegalArgumentException"
abbrev xNSE : String := "java/util/NoSuchElementException"
abbrev xUOE : String := "java/lang/UnsupportedOperationException"
abbrev xARE : String := "java/lang/ArithmeticException"
section CK
variable {G : pb_G} {K : co_K} {h : pb_H} {o e m : Nat}
theorem ck_bt (v lo hi : Int) (h1 : pb_rg v) (h2 : pb_rg lo) (h3 : pb_rg hi) : pb_Ctr G mX7_isBetween 0 0 0 [pb_i v, pb_i lo, pb_i hi] h (pb_P (some (pb_i (if lo ≤ v ∧ v ≤ hi then 1 else 0))) h) := by
  refine pb_Ctr.of rfl rfl rfl tX7_isBetween_ok rfl ?_
  (try refine pb_Ex.run rfl ?_)
  refine pb_Ex.icmp_lt rfl (by omega) (by omega) (fun c => ?_) (fun c => ?_)
  · rw [if_neg (by omega)]
    refine pb_Ex.run rfl ?_
    refine pb_Ex.zret (ty := .boolean) rfl rfl (pb_nb (Or.inl rfl)).1 (by omega) (by omega) (⟨rfl, rfl⟩)
  · refine pb_Ex.run rfl ?_
    refine pb_Ex.icmp_gt rfl (by omega) (by omega) (fun c2 => ?_) (fun c2 => ?_)
    · rw [if_neg (by omega)]
      refine pb_Ex.run rfl ?_
      refine pb_Ex.zret (ty := .boolean) rfl rfl (pb_nb (Or.inl rfl)).1 (by omega) (by omega) (⟨rfl, rfl⟩)
    · rw [if_pos (by omega)]
      refine pb_Ex.run rfl ?_
      refine pb_Ex.zret (ty := .boolean) rfl rfl (pb_nb (Or.inr rfl)).1 (by omega) (by omega) (⟨rfl, rfl⟩)
theorem ck_st1 : pb_Ctr G mX7_state 0 0 0 [pb_i 1] h (pb_P none h) := by
  refine pb_Ctr.of rfl rfl rfl tX7_state_ok rfl ?_
  (try refine pb_Ex.run rfl ?_)
  refine pb_Ex.ifT rfl (by omega) (by first | decide | (simp only [pb_cmp]; omega) | simp [pb_cmp]) ?_
  (try refine pb_Ex.run rfl ?_)
  refine pb_Ex.vret rfl rfl (by omega) (by omega) (⟨rfl, rfl⟩)
theorem ck_st0 (hG : co_G G K) : pb_Ctr G mX7_state 6 1 6 [pb_i 0] h (th_Q xISE h) := by
  refine pb_Ctr.of rfl rfl rfl tX7_state_ok rfl ?_
  (try refine pb_Ex.run rfl ?_)
  refine pb_Ex.ifF rfl (by omega) (by first | decide | (simp only [pb_cmp]; omega) | simp [pb_cmp]) ?_
  refine pb_Ex.thr pb_xISE hG.2.2.1 rfl rfl rfl rfl rfl rfl rfl (by omega) (by omega) (by omega) (fun sz hsz => pb_Xx.out rfl (by omega) (by omega) ?_)
  exact ⟨_, rfl, fr_x.ho fr_x.rf (by omega)⟩
theorem ck_ix1 : pb_Ctr G mX7_index 0 0 0 [pb_i 1] h (pb_P none h) := by
  refine pb_Ctr.of rfl rfl rfl tX7_index_ok rfl ?_
  (try refine pb_Ex.run rfl ?_)
  refine pb_Ex.ifT rfl (by omega) (by first | decide | (simp only [pb_cmp]; omega) | simp [pb_cmp]) ?_
  (try refine pb_Ex.run rfl ?_)
  refine pb_Ex.vret rfl rfl (by omega) (by omega) (⟨rfl, rfl⟩)
theorem ck_ix0 (hG : co_G G K) : pb_Ctr G mX7_index 6 1 6 [pb_i 0] h (th_Q xIOB h) := by
  refine pb_Ctr.of rfl rfl rfl tX7_index_ok rfl ?_
  (try refine pb_Ex.run rfl ?_)
  refine pb_Ex.ifF rfl (by omega) (by first | decide | (simp only [pb_cmp]; omega) | simp [pb_cmp]) ?_
  refine pb_Ex.thr pb_xIOB hG.2.2.1 rfl rfl rfl rfl rfl rfl rfl (by omega) (by omega) (by omega) (fun sz hsz => pb_Xx.out rfl (by omega) (by omega) ?_)
  exact ⟨_, rfl, fr_x.ho fr_x.rf (by omega)⟩
theorem ck_el1 : pb_Ctr G mX7_element 0 0 0 [pb_i 1] h (pb_P none h) := by
  refine pb_Ctr.of rfl rfl rfl tX7_element_ok rfl ?_
  (try refine pb_Ex.run rfl ?_)
  refine pb_Ex.ifT rfl (by omega) (by first | decide | (simp only [pb_cmp]; omega) | simp [pb_cmp]) ?_
  (try refine pb_Ex.run rfl ?_)
  refine pb_Ex.vret rfl rfl (by omega) (by omega) (⟨rfl, rfl⟩)
theorem ck_el0 (hG : co_G G K) : pb_Ctr G mX7_element 6 1 6 [pb_i 0] h (th_Q xNSE h) := by
  refine pb_Ctr.of rfl rfl rfl tX7_element_ok rfl ?_
  (try refine pb_Ex.run rfl ?_)
  refine pb_Ex.ifF rfl (by omega) (by first | decide | (simp only [pb_cmp]; omega) | simp [pb_cmp]) ?_
  refine pb_Ex.thr pb_xNSE hG.2.2.1 rfl rfl rfl rfl rfl rfl rfl (by omega) (by omega) (by omega) (fun sz hsz => pb_Xx.out rfl (by omega) (by omega) ?_)
  exact ⟨_, rfl, fr_x.ho fr_x.rf (by omega)⟩
theorem ck_arg1 {N : Nat} {g : Nat → Int} (ha : h.2 o = some (pb_aI 1 N g)) (hN : N ≤ 10) (hg : ∀ j, j < N → g j = 1) : pb_Ctr G mX7_argument 0 0 0 [pb_r o] h (pb_P none h) := by
  refine pb_Ctr.of rfl rfl rfl tX7_argument_ok rfl ?_
  (try refine pb_Ex.run rfl ?_)
  refine pb_Ex.alen0 (N := N) (kd := 0) rfl (ha) rfl (by omega) ?_
  (try refine pb_Ex.run rfl ?_)
  have loop : ∀ (d j : Nat) (z : Int) (y : Option pb_V), j + d = N → z = j → pb_Ex G mX7_argument 0 0 0 (pb_P none h) 0 0 7 [some (pb_r o), some (pb_r o), some (pb_i N), some (pb_i z), y] [] h := by
    intro d
    induction d with
    | zero =>
      intro j z y hj hz
      refine pb_Ex.run rfl ?_
      refine pb_Ex.icmpT rfl (by omega) (by omega) (by first | decide | (simp only [pb_cmp]; omega) | simp [pb_cmp]) ?_
      (try refine pb_Ex.run rfl ?_)
      refine pb_Ex.vret rfl rfl (by omega) (by omega) (⟨rfl, rfl⟩)
    | succ d ih =>
      intro j z y hj hz
      subst hz
      refine pb_Ex.run rfl ?_
      refine pb_Ex.icmpF rfl (by omega) (by omega) (by first | decide | (simp only [pb_cmp]; omega) | simp [pb_cmp]) ?_
      (try refine pb_Ex.run rfl ?_)
      refine pb_Ex.zat (j) rfl (ha) (by omega) (by omega) ?_
      (try refine pb_Ex.run rfl ?_)
      rw [hg j (by omega)]
      refine pb_Ex.ifT rfl (by omega) (by first | decide | (simp only [pb_cmp]; omega) | simp [pb_cmp]) ?_
      (try refine pb_Ex.run rfl ?_)
      exact ih (j + 1) _ _ (by omega) (by omega)
  exact loop N 0 0 none (by omega) rfl
theorem ck_arg0 {N : Nat} {g : Nat → Int} (hG : co_G G K) (ha : h.2 o = some (pb_aI 1 N g)) (hN : N ≤ 10) (p : Nat) (hp : p < N) (hg0 : g p = 0) (hg : ∀ j, j < p → g j = 1) : pb_Ctr G mX7_argument 6 1 6 [pb_r o] h (th_Q xIAE h) := by
  refine pb_Ctr.of rfl rfl rfl tX7_argument_ok rfl ?_
  (try refine pb_Ex.run rfl ?_)
  refine pb_Ex.alen0 (N := N) (kd := 0) rfl (ha) rfl (by omega) ?_
  (try refine pb_Ex.run rfl ?_)
  have loop : ∀ (d j : Nat) (z : Int) (y : Option pb_V), j + d = p → z = j → pb_Ex G mX7_argument 6 1 6 (th_Q xIAE h) 0 0 7 [some (pb_r o), some (pb_r o), some (pb_i N), some (pb_i z), y] [] h := by
    intro d
    induction d with
    | zero =>
      intro j z y hj hz
      have e1 : j = p := by omega
      subst e1
      subst hz
      refine pb_Ex.run rfl ?_
      refine pb_Ex.icmpF rfl (by omega) (by omega) (by first | decide | (simp only [pb_cmp]; omega) | simp [pb_cmp]) ?_
      (try refine pb_Ex.run rfl ?_)
      refine pb_Ex.zat (j) rfl (ha) (by omega) (by omega) ?_
      (try refine pb_Ex.run rfl ?_)
      rw [hg0]
      refine pb_Ex.ifF rfl (by omega) (by first | decide | (simp only [pb_cmp]; omega) | simp [pb_cmp]) ?_
      refine pb_Ex.thr pb_xIAE hG.2.2.1 rfl rfl rfl rfl rfl rfl rfl (by omega) (by omega) (by omega) (fun sz hsz => pb_Xx.out rfl (by omega) (by omega) ?_)
      exact ⟨_, rfl, fr_x.ho fr_x.rf (by omega)⟩
    | succ d ih =>
      intro j z y hj hz
      subst hz
      refine pb_Ex.run rfl ?_
      refine pb_Ex.icmpF rfl (by omega) (by omega) (by first | decide | (simp only [pb_cmp]; omega) | simp [pb_cmp]) ?_
      (try refine pb_Ex.run rfl ?_)
      refine pb_Ex.zat (j) rfl (ha) (by omega) (by omega) ?_
      (try refine pb_Ex.run rfl ?_)
      rw [hg j (by omega)]
      refine pb_Ex.ifT rfl (by omega) (by first | decide | (simp only [pb_cmp]; omega) | simp [pb_cmp]) ?_
      (try refine pb_Ex.run rfl ?_)
      exact ih (j + 1) _ _ (by omega) (by omega)
  exact loop p 0 0 none (by omega) rfl
/-! frames -/
theorem fm_init {x y : pb_V} (l r : Int) (hb : h.2 o = some (pb_ob 6 [x, y])) : pb_Ctr G mX8_init 1 0 0 [pb_r o, pb_i l, pb_i r] h (fun oc h' => oc = .inl none ∧ h'.1 = h.1 ∧ h'.2 o = some (pb_ob 6 [pb_i l, pb_i r]) ∧ ∀ b, b ≠ o → h'.2 b = h.2 b) := by
  refine pb_Ctr.of rfl rfl rfl tX8_init_ok rfl ?_
  (try refine pb_Ex.run rfl ?_)
  refine pb_Ex.objI rfl rfl rfl (by omega) ?_
  refine pb_Ex.run rfl ?_
  refine pb_Ex.putfF rfl rfl (hb) (Or.inl rfl) (fun r hr => by cases hr; rfl) rfl (by first | trivial | exact Or.inl rfl | exact Or.inr rfl | (show _ ∨ _; omega) | (show _ ∧ _; omega)) ?_
  (try refine pb_Ex.run rfl ?_)
  refine pb_Ex.putfF rfl rfl (pb_set_same) (Or.inl rfl) (fun r hr => by cases hr; rfl) rfl (by first | trivial | exact Or.inl rfl | exact Or.inr rfl | (show _ ∨ _; omega) | (show _ ∧ _; omega)) ?_
  (try refine pb_Ex.run rfl ?_)
  refine pb_Ex.vret rfl rfl (by omega) (by omega) (⟨rfl, rfl, pb_set_same, fun b h1 => by rw [pb_set_ne h1, pb_set_ne h1]⟩)
theorem fm_width {l r : Int} (hb : h.2 o = some (pb_ob 6 [pb_i l, pb_i r])) : pb_Ctr G mX8_width 0 0 0 [pb_r o] h (pb_P (some (pb_i (l + r))) h) := by
  refine pb_Ctr.of rfl rfl rfl tX8_width_ok rfl ?_
  (try refine pb_Ex.run rfl ?_)
  refine pb_Ex.getf rfl rfl hb rfl ?_
  (try refine pb_Ex.run rfl ?_)
  refine pb_Ex.getf rfl rfl hb rfl ?_
  (try refine pb_Ex.run rfl ?_)
  refine pb_Ex.iret rfl rfl (by omega) (by omega) (⟨rfl, rfl⟩)
theorem fm_mirrored {l r : Int} (hb : h.2 o = some (pb_ob 6 [pb_i l, pb_i r])) : pb_Ctr G mX8_mirrored 2 1 2 [pb_r o] h (fun oc h' => oc = .inl (some (pb_r h.1)) ∧ h'.1 = h.1 + 1 ∧ h'.2 h.1 = some (pb_ob 6 [pb_i r, pb_i l]) ∧ ∀ b, b ≠ h.1 → h'.2 b = h.2 b) := by
  refine pb_Ctr.of rfl rfl rfl tX8_mirrored_ok rfl ?_
  (try refine pb_Ex.run rfl ?_)
  refine pb_Ex.fin (fun hf => ?_)
  have hbl := hf _ _ hb
  refine pb_Ex.new 6 2 RX8 TX8 [pb_i 0, pb_i 0] rfl rfl rfl rfl (fun j hj => by
    have hj : j < 2 := hj
    match j, hj with
    | 0, _ => rfl
    | 1, _ => rfl) (by omega) (by omega) ?_
  refine pb_Ex.run rfl ?_
  have hb2 : (pb_new h (pb_ob 6 [pb_i 0, pb_i 0])).2 o = some (pb_ob 6 [pb_i l, pb_i r]) := by rw [pb_new_ne (by omega)]; exact hb
  refine pb_Ex.getf rfl rfl hb2 rfl ?_
  (try refine pb_Ex.run rfl ?_)
  refine pb_Ex.getf rfl rfl hb2 rfl ?_
  (try refine pb_Ex.run rfl ?_)
  refine pb_Ex.cIo rfl rfl rfl rfl (fm_init r l pb_new_same) (by omega) (by omega) (by omega) (fun h1 e1 => ?_)
  (try refine pb_Ex.run rfl ?_)
  refine pb_Ex.aret rfl rfl (by first | exact Or.inl ⟨_, rfl⟩ | exact Or.inr ⟨_, rfl⟩) (by omega) (by omega) (⟨rfl, e1.1, e1.2.1, fun b hb => by rw [e1.2.2 b hb, pb_new_ne hb]⟩)
theorem fm_isMirrorOf {x : Nat} {l r l2 r2 : Int} (hb : h.2 o = some (pb_ob 6 [pb_i l, pb_i r])) (hx : h.2 x = some (pb_ob 6 [pb_i l2, pb_i r2])) (h1 : pb_rg l) (h2 : pb_rg r) (h3 : pb_rg l2) (h4 : pb_rg r2) : pb_Ctr G mX8_isMirrorOf 0 0 0 [pb_r o, pb_r x] h (pb_P (some (pb_i (if l = r2 ∧ r = l2 then 1 else 0))) h) := by
  refine pb_Ctr.of rfl rfl rfl tX8_isMirrorOf_ok rfl ?_
  (try refine pb_Ex.run rfl ?_)
  refine pb_Ex.getf rfl rfl hb rfl ?_
  (try refine pb_Ex.run rfl ?_)
  refine pb_Ex.getf rfl rfl hx rfl ?_
  (try refine pb_Ex.run rfl ?_)
  refine pb_Ex.icmp_ne rfl (by omega) (by omega) (fun c => ?_) (fun c => ?_)
  · rw [if_neg (by omega)]
    refine pb_Ex.run rfl ?_
    refine pb_Ex.zret (ty := .boolean) rfl rfl (pb_nb (Or.inl rfl)).1 (by omega) (by omega) (⟨rfl, rfl⟩)
  · refine pb_Ex.run rfl ?_
    refine pb_Ex.getf rfl rfl hb rfl ?_
    (try refine pb_Ex.run rfl ?_)
    refine pb_Ex.getf rfl rfl hx rfl ?_
    (try refine pb_Ex.run rfl ?_)
    refine pb_Ex.icmp_ne rfl (by omega) (by omega) (fun c2 => ?_) (fun c2 => ?_)
    · rw [if_neg (by omega)]
      refine pb_Ex.run rfl ?_
      refine pb_Ex.zret (ty := .boolean) rfl rfl (pb_nb (Or.inl rfl)).1 (by omega) (by omega) (⟨rfl, rfl⟩)
    · rw [if_pos (by omega)]
      refine pb_Ex.run rfl ?_
      refine pb_Ex.zret (ty := .boolean) rfl rfl (pb_nb (Or.inr rfl)).1 (by omega) (by omega) (⟨rfl, rfl⟩)
/-! orders -/
theorem or_init (i f hr c : Int) (hb : h.2 o = some (pb_ob 8 [pb_i 0, pb_i 0, pb_i 0, pb_i 0])) : pb_Ctr G mX10_init 1 0 0 [pb_r o, pb_i i, pb_i f, pb_i hr, pb_i c] h (fun oc h' => oc = .inl none ∧ h'.1 = h.1 ∧ h'.2 o = some (pb_ob 8 [pb_i i, pb_i f, pb_i hr, pb_i c]) ∧ ∀ b, b ≠ o → h'.2 b = h.2 b) := by
  refine pb_Ctr.of rfl rfl rfl tX10_init_ok rfl ?_
  (try refine pb_Ex.run rfl ?_)
  refine pb_Ex.objI rfl rfl rfl (by omega) ?_
  refine pb_Ex.run rfl ?_
  refine pb_Ex.putfF rfl rfl (hb) (Or.inl rfl) (fun r hr => by cases hr; rfl) rfl (by first | trivial | exact Or.inl rfl | exact Or.inr rfl | (show _ ∨ _; omega) | (show _ ∧ _; omega)) ?_
  (try refine pb_Ex.run rfl ?_)
  refine pb_Ex.putfF rfl rfl (pb_set_same) (Or.inl rfl) (fun r hr => by cases hr; rfl) rfl (by first | trivial | exact Or.inl rfl | exact Or.inr rfl | (show _ ∨ _; omega) | (show _ ∧ _; omega)) ?_
  (try refine pb_Ex.run rfl ?_)
  refine pb_Ex.putfF rfl rfl (pb_set_same) (Or.inl rfl) (fun r hr => by cases hr; rfl) rfl (by first | trivial | exact Or.inl rfl | exact Or.inr rfl | (show _ ∨ _; omega) | (show _ ∧ _; omega)) ?_
  (try refine pb_Ex.run rfl ?_)
  refine pb_Ex.putfF rfl rfl (pb_set_same) (Or.inl rfl) (fun r hr => by cases hr; rfl) rfl (by first | trivial | exact Or.inl rfl | exact Or.inr rfl | (show _ ∨ _; omega) | (show _ ∧ _; omega)) ?_
  (try refine pb_Ex.run rfl ?_)
  refine pb_Ex.vret rfl rfl (by omega) (by omega) (⟨rfl, rfl, pb_set_same, fun b h1 => by rw [pb_set_ne h1, pb_set_ne h1, pb_set_ne h1, pb_set_ne h1]⟩)
theorem or_coins {i f hr c : Int} (hb : h.2 o = some (pb_ob 8 [pb_i i, pb_i f, pb_i hr, pb_i c])) (nw : Int) (h1 : 0 ≤ nw ∧ nw ≤ 1000000) (h2 : 0 ≤ hr ∧ hr ≤ 999) (h3 : 0 ≤ c ∧ c ≤ 999) : pb_Ctr G mX10_coinsAt 1 0 0 [pb_r o, pb_i nw] h (pb_P (some (pb_i (max 0 (c - max 0 (nw - hr))))) h) := by
  refine pb_Ctr.of rfl rfl rfl tX10_coinsAt_ok rfl ?_
  (try refine pb_Ex.run rfl ?_)
  refine pb_Ex.getf rfl rfl hb rfl ?_
  (try refine pb_Ex.run rfl ?_)
  refine pb_Ex.getf rfl rfl hb rfl ?_
  (try refine pb_Ex.run rfl ?_)
  refine pb_Ex.mmax rfl rfl (by omega) (by omega) rfl (by omega) (by omega) (by omega) ?_
  (try refine pb_Ex.run rfl ?_)
  refine pb_Ex.mmax rfl rfl (by omega) (by omega) rfl (by omega) (by omega) (by omega) ?_
  (try refine pb_Ex.run rfl ?_)
  refine pb_Ex.iret rfl rfl (by omega) (by omega) (⟨rfl, rfl⟩)
end CK
