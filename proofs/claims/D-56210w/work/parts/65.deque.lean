set_option maxRecDepth 100000
/-! THE DEQUE (java.util.ArrayDeque): 17 places, n objects y from the first on -/
def dq_q (hd n : Nat) (y : Nat → Nat) (p : Nat) : Option Nat := if (p + 17 - hd) % 17 < n then some (y ((p + 17 - hd) % 17)) else none
def dq_W (h : pb_H) (a e n : Nat) (y : Nat → Nat) : Prop := ∃ (hd : Nat) (q : Nat → Option Nat), h.2 a = some (pb_ob 13 [pb_r e, pb_i hd, pb_i ((hd + n) % 17 : Nat)]) ∧ hd < 17 ∧ n ≤ 9 ∧ h.2 e = some (pb_aR 17 q) ∧ ∀ p, p < 17 → q p = dq_q hd n y p
theorem dq_W.fr {h h' : pb_H} {a e n : Nat} {y : Nat → Nat} {P : Nat → pb_C → Prop} (hW : dq_W h a e n y) (hx : fr_P P h h') (h1 : ∀ c, h.2 a = some c → P a c) (h2 : ∀ c, h.2 e = some c → P e c) : dq_W h' a e n y := by
  obtain ⟨hd, q, k1, k2, k3, k4, k5⟩ := hW
  exact ⟨hd, q, hx.2 _ _ k1 (h1 _ k1), k2, k3, hx.2 _ _ k4 (h2 _ k4), k5⟩
/-- behind a change -/
def dq_St (h : pb_H) (a e n : Nat) (y : Nat → Nat) (h' : pb_H) : Prop := dq_W h' a e n y ∧ h'.1 = h.1 ∧ ∀ b, b ≠ a → b ≠ e → h'.2 b = h.2 b
section DQ
variable {G : pb_G} {K : co_K} {h : pb_H} {a e m : Nat} {y : Nat → Nat}
theorem jd_init (hb : h.2 a = some (pb_ob 13 [pb_0, pb_i 0, pb_i 0])) : pb_Ctr G mJ4_init 3 1 17 [pb_r a] h (fun oc h' => oc = .inl none ∧ h'.1 = h.1 + 1 ∧ dq_W h' a h.1 0 y ∧ ∀ b, b ≠ a → b ≠ h.1 → h'.2 b = h.2 b) := by
  refine pb_Ctr.of rfl rfl rfl tJ4_init_ok rfl ?_
  (try refine pb_Ex.run rfl ?_)
  refine pb_Ex.fin (fun hf => ?_)
  have hal := hf _ _ hb
  refine pb_Ex.cIo (M2 := mJ0_init) (Qn := fun h' => h' = h) (C2 := 0) (S2 := 0) rfl rfl rfl rfl ?_ (show 1 < 3 by omega) (by omega) (by omega) (fun h1 e1 => ?_)
  · refine pb_Ctr.of rfl rfl rfl tJ0_init_ok rfl ?_
    (try refine pb_Ex.run rfl ?_)
    refine pb_Ex.objI rfl rfl rfl (by omega) ?_
    refine pb_Ex.vret rfl rfl (by omega) (by omega) (⟨rfl, rfl⟩)
  rw [e1]
  refine pb_Ex.run rfl ?_
  refine pb_Ex.newO 17 rfl rfl rfl (by omega) (by omega) (by omega) ?_
  have hb2 : (pb_new h (pb_aR 17 (fun _ => none))).2 a = some (pb_ob 13 [pb_0, pb_i 0, pb_i 0]) := by rw [pb_new_ne (by omega)]; exact hb
  refine pb_Ex.putf rfl rfl (hb2) rfl rfl (by first | trivial | exact Or.inl rfl | exact Or.inr rfl | (show _ ∨ _; omega) | (show _ ∧ _; omega)) ?_
  (try refine pb_Ex.run rfl ?_)
  refine pb_Ex.vret rfl rfl (by omega) (by omega) (⟨rfl, rfl, ⟨0, _, pb_set_same, by omega, by omega, (pb_set_ne (by omega)).trans pb_new_same, fun p hp => by unfold dq_q; rw [if_neg (by omega)]⟩, fun b h1 h2 => by rw [pb_set_ne h1, pb_new_ne h2]⟩)
theorem jd_sub (i j : Nat) (hi : i < 17) (hj : j < 17) : pb_Ctr G mJ4_sub 0 0 0 [pb_i i, pb_i j, pb_i (17 : Nat)] h (pb_P (some (pb_i ((i + 17 - j) % 17 : Nat))) h) := by
  refine pb_Ctr.of rfl rfl rfl tJ4_sub_ok rfl ?_
  (try refine pb_Ex.run rfl ?_)
  refine pb_Ex.if_ge rfl (by omega) (fun c => ?_) (fun c => ?_)
  · refine pb_Ex.run rfl ?_
    have e1 : (i : Int) - j = (((i + 17 - j) % 17 : Nat) : Int) := by omega
    rw [e1]
    refine pb_Ex.iret rfl rfl (by omega) (by omega) (⟨rfl, rfl⟩)
  · refine pb_Ex.run rfl ?_
    have e1 : (i : Int) - j + ((17 : Nat) : Int) = (((i + 17 - j) % 17 : Nat) : Int) := by omega
    rw [e1]
    refine pb_Ex.iret rfl rfl (by omega) (by omega) (⟨rfl, rfl⟩)
theorem jd_dec (i : Nat) (hi : i < 17) : pb_Ctr G mJ4_dec 0 0 0 [pb_i i, pb_i (17 : Nat)] h (pb_P (some (pb_i ((i + 16) % 17 : Nat))) h) := by
  refine pb_Ctr.of rfl rfl rfl tJ4_dec_ok rfl ?_
  (try refine pb_Ex.run rfl ?_)
  refine pb_Ex.if_ge rfl (by omega) (fun c => ?_) (fun c => ?_)
  · refine pb_Ex.run rfl ?_
    have e1 : (i : Int) + -1 = (((i + 16) % 17 : Nat) : Int) := by omega
    rw [e1]
    refine pb_Ex.iret rfl rfl (by omega) (by omega) (⟨rfl, rfl⟩)
  · refine pb_Ex.run rfl ?_
    have e1 : ((17 : Nat) : Int) - 1 = (((i + 16) % 17 : Nat) : Int) := by omega
    rw [e1]
    refine pb_Ex.iret rfl rfl (by omega) (by omega) (⟨rfl, rfl⟩)
theorem jd_inc (i : Nat) (hi : i < 17) : pb_Ctr G mJ4_inc 0 0 0 [pb_i i, pb_i (17 : Nat)] h (pb_P (some (pb_i ((i + 1) % 17 : Nat))) h) := by
  refine pb_Ctr.of rfl rfl rfl tJ4_inc_ok rfl ?_
  (try refine pb_Ex.run rfl ?_)
  refine pb_Ex.icmp_lt rfl (by omega) (by omega) (fun c => ?_) (fun c => ?_)
  · refine pb_Ex.run rfl ?_
    have e1 : (i : Int) + 1 = (((i + 1) % 17 : Nat) : Int) := by omega
    rw [e1]
    refine pb_Ex.iret rfl rfl (by omega) (by omega) (⟨rfl, rfl⟩)
  · refine pb_Ex.run rfl ?_
    have e1 : (0 : Int) = (((i + 1) % 17 : Nat) : Int) := by omega
    rw [e1]
    refine pb_Ex.iret rfl rfl (by omega) (by omega) (⟨rfl, rfl⟩)
theorem jd_at {q : Nat → Option Nat} (he : h.2 e = some (pb_aR 17 q)) (i : Nat) (hi : i < 17) : pb_Ctr G mJ4_elementAt 0 0 0 [pb_r e, pb_i i] h (pb_P (some (pb_q (q i))) h) := by
  refine pb_Ctr.of rfl rfl rfl tJ4_elementAt_ok rfl ?_
  (try refine pb_Ex.run rfl ?_)
  refine pb_Ex.aat (i) rfl (he) (by omega) (by omega) ?_
  (try refine pb_Ex.run rfl ?_)
  refine pb_Ex.aret rfl rfl (by first | exact Or.inl ⟨_, rfl⟩ | exact Or.inr ⟨_, rfl⟩) (by omega) (by omega) (⟨rfl, rfl⟩)
theorem jd_size (hW : dq_W h a e m y) : pb_Ctr G mJ4_size 1 0 0 [pb_r a] h (pb_P (some (pb_i m)) h) := by
  obtain ⟨hd, q, k1, k2, k3, k4, k5⟩ := hW
  refine pb_Ctr.of rfl rfl rfl tJ4_size_ok rfl ?_
  (try refine pb_Ex.run rfl ?_)
  refine pb_Ex.getf rfl rfl k1 rfl ?_
  (try refine pb_Ex.run rfl ?_)
  refine pb_Ex.getf rfl rfl k1 rfl ?_
  (try refine pb_Ex.run rfl ?_)
  refine pb_Ex.getf rfl rfl k1 rfl ?_
  (try refine pb_Ex.run rfl ?_)
  refine pb_Ex.alen0 (N := 17) (kd := 0) rfl (k4) rfl (by omega) ?_
  (try refine pb_Ex.run rfl ?_)
  refine pb_Ex.pS rfl rfl rfl rfl (jd_sub ((hd + m) % 17) hd (by omega) k2) (by omega) (by omega) (by omega) ?_
  (try refine pb_Ex.run rfl ?_)
  have e1 : ((hd + m) % 17 + 17 - hd) % 17 = m := by omega
  rw [e1]
  refine pb_Ex.iret rfl rfl (by omega) (by omega) (⟨rfl, rfl⟩)
theorem jd_isEmpty (hW : dq_W h a e m y) : pb_Ctr G mJ4_isEmpty 0 0 0 [pb_r a] h (pb_P (some (pb_i (if m = 0 then 1 else 0))) h) := by
  obtain ⟨hd, q, k1, k2, k3, k4, k5⟩ := hW
  refine pb_Ctr.of rfl rfl rfl tJ4_isEmpty_ok rfl ?_
  (try refine pb_Ex.run rfl ?_)
  refine pb_Ex.getf rfl rfl k1 rfl ?_
  (try refine pb_Ex.run rfl ?_)
  refine pb_Ex.getf rfl rfl k1 rfl ?_
  (try refine pb_Ex.run rfl ?_)
  refine pb_Ex.icmp_ne rfl (by omega) (by omega) (fun c => ?_) (fun c => ?_)
  · rw [if_neg (by omega)]
    refine pb_Ex.run rfl ?_
    refine pb_Ex.zret (ty := .boolean) rfl rfl (pb_nb (Or.inl rfl)).1 (by omega) (by omega) (⟨rfl, rfl⟩)
  · rw [if_pos (by omega)]
    refine pb_Ex.run rfl ?_
    refine pb_Ex.zret (ty := .boolean) rfl rfl (pb_nb (Or.inr rfl)).1 (by omega) (by omega) (⟨rfl, rfl⟩)
theorem jd_addFirst {x ci : Nat} {fs : List pb_V} (hW : dq_W h a e m y) (hm : m ≤ 8) (hx : h.2 x = some (pb_ob ci fs)) (hci : ci ≠ 13) : pb_Ctr G mJ4_addFirst 1 0 0 [pb_r a, pb_r x] h (fun oc h' => oc = .inl none ∧ dq_St h a e (m + 1) (fun i => if i = 0 then x else y (i - 1)) h') := by
  obtain ⟨hd, q, k1, k2, k3, k4, k5⟩ := hW
  have hae : a ≠ e := fun z => by rw [z, k4] at k1; cases k1
  have hxa : x ≠ a := fun z => by rw [z, k1] at hx; cases hx; exact hci rfl
  refine pb_Ctr.of rfl rfl rfl tJ4_addFirst_ok rfl ?_
  (try refine pb_Ex.run rfl ?_)
  refine pb_Ex.ifnonnull rfl (fun a9 e9 => ?_) (fun e => by cases e)
  (try refine pb_Ex.run rfl ?_)
  refine pb_Ex.getf rfl rfl k1 rfl ?_
  (try refine pb_Ex.run rfl ?_)
  refine pb_Ex.getf rfl rfl k1 rfl ?_
  (try refine pb_Ex.run rfl ?_)
  refine pb_Ex.alen0 (N := 17) (kd := 0) rfl (k4) rfl (by omega) ?_
  (try refine pb_Ex.run rfl ?_)
  refine pb_Ex.pS rfl rfl rfl rfl (jd_dec hd k2) (by omega) (by omega) (by omega) ?_
  (try refine pb_Ex.run rfl ?_)
  refine pb_Ex.putf rfl rfl (k1) rfl rfl (by first | trivial | exact Or.inl rfl | exact Or.inr rfl | (show _ ∨ _; omega) | (show _ ∧ _; omega)) ?_
  (try refine pb_Ex.run rfl ?_)
  have k1' : (pb_set h a (pb_ob 13 ([pb_r e, pb_i hd, pb_i ((hd + m) % 17 : Nat)].set 1 (pb_i ((hd + 16) % 17 : Nat))))).2 a = some (pb_ob 13 [pb_r e, pb_i ((hd + 16) % 17 : Nat), pb_i ((hd + m) % 17 : Nat)]) := pb_set_same
  refine pb_Ex.aast ((hd + 16) % 17) rfl ((pb_set_ne (Ne.symm hae)).trans k4) rfl (by omega) ((pb_set_ne hxa).trans hx) ?_
  refine pb_Ex.run rfl ?_
  refine pb_Ex.getf rfl rfl ((pb_set_ne hae).trans k1') rfl ?_
  (try refine pb_Ex.run rfl ?_)
  refine pb_Ex.getf rfl rfl ((pb_set_ne hae).trans k1') rfl ?_
  (try refine pb_Ex.run rfl ?_)
  refine pb_Ex.icmpT rfl (by omega) (by omega) (by first | decide | (simp only [pb_cmp]; omega) | simp [pb_cmp]) ?_
  (try refine pb_Ex.run rfl ?_)
  refine pb_Ex.vret rfl rfl (by omega) (by omega) (⟨rfl, ⟨(hd + 16) % 17, _, ?_, by omega, by omega, pb_set_same, fun p hp => ?_⟩, rfl, fun b h1 h2 => by rw [pb_set_ne h2, pb_set_ne h1]⟩)
  · rw [pb_set_ne hae, k1', show ((hd + 16) % 17 + (m + 1)) % 17 = (hd + m) % 17 by omega]
  · unfold dq_q
    by_cases c : p = (hd + 16) % 17
    · subst c
      rw [va_upS, if_pos (by omega)]
      dsimp only
      rw [if_pos (by omega)]
    · rw [va_upN _ _ c, k5 p hp]
      unfold dq_q
      have e1 : (p + 17 - (hd + 16) % 17) % 17 = (p + 17 - hd) % 17 + 1 := by omega
      rw [e1]
      by_cases c2 : (p + 17 - hd) % 17 < m
      · rw [if_pos c2, if_pos (by omega)]
        dsimp only
        rw [if_neg (by omega), Nat.add_sub_cancel]
      · rw [if_neg c2, if_neg (by omega)]
theorem jd_push {x ci : Nat} {fs : List pb_V} (hW : dq_W h a e m y) (hm : m ≤ 8) (hx : h.2 x = some (pb_ob ci fs)) (hci : ci ≠ 13) : pb_Ctr G mJ4_push 2 0 0 [pb_r a, pb_r x] h (fun oc h' => oc = .inl none ∧ dq_St h a e (m + 1) (fun i => if i = 0 then x else y (i - 1)) h') := by
  have hW' := hW
  obtain ⟨hd, q, k1, k2, k3, k4, k5⟩ := hW
  refine pb_Ctr.of rfl rfl rfl tJ4_push_ok rfl ?_
  (try refine pb_Ex.run rfl ?_)
  refine pb_Ex.cV rfl rfl rfl rfl k1 rfl rfl (jd_addFirst hW' hm hx hci) ⟨by omega, by omega, by omega⟩ (fun v h1 hq1 => ?_) (fun E q9 h1 hq1 => by cases hq1.1)
  obtain ⟨e1, e2⟩ := hq1
  cases e1
  (try refine pb_Ex.run rfl ?_)
  refine pb_Ex.vret rfl rfl (by omega) (by omega) (⟨rfl, e2⟩)
theorem jd_pollFirst (hW : dq_W h a e (m + 1) y) : pb_Ctr G mJ4_pollFirst 1 0 0 [pb_r a] h (fun oc h' => oc = .inl (some (pb_r (y 0))) ∧ dq_St h a e m (fun i => y (i + 1)) h') := by
  obtain ⟨hd, q, k1, k2, k3, k4, k5⟩ := hW
  have hae : a ≠ e := fun z => by rw [z, k4] at k1; cases k1
  refine pb_Ctr.of rfl rfl rfl tJ4_pollFirst_ok rfl ?_
  (try refine pb_Ex.run rfl ?_)
  refine pb_Ex.getf rfl rfl k1 rfl ?_
  (try refine pb_Ex.run rfl ?_)
  refine pb_Ex.getf rfl rfl k1 rfl ?_
  (try refine pb_Ex.run rfl ?_)
  refine pb_Ex.pS rfl rfl rfl rfl (jd_at k4 hd k2) (by omega) (by omega) (by omega) ?_
  (try refine pb_Ex.run rfl ?_)
  have e1 : q hd = some (y 0) := by
    rw [k5 hd k2]
    unfold dq_q
    rw [show (hd + 17 - hd) % 17 = 0 by omega, if_pos (by omega)]
  rw [e1]
  (try refine pb_Ex.run rfl ?_)
  refine pb_Ex.ifnull rfl (fun e => by cases e) (fun a9 e9 => ?_)
  (try refine pb_Ex.run rfl ?_)
  cases e9
  refine pb_Ex.aastN hd rfl k4 rfl k2 ?_
  refine pb_Ex.run rfl ?_
  refine pb_Ex.alen0 (N := 17) (kd := 0) rfl (pb_set_same) rfl (by omega) ?_
  (try refine pb_Ex.run rfl ?_)
  refine pb_Ex.pS rfl rfl rfl rfl (jd_inc hd k2) (by omega) (by omega) (by omega) ?_
  (try refine pb_Ex.run rfl ?_)
  refine pb_Ex.putf rfl rfl ((pb_set_ne hae).trans k1) rfl rfl (by first | trivial | exact Or.inl rfl | exact Or.inr rfl | (show _ ∨ _; omega) | (show _ ∧ _; omega)) ?_
  (try refine pb_Ex.run rfl ?_)
  refine pb_Ex.aret rfl rfl (by first | exact Or.inl ⟨_, rfl⟩ | exact Or.inr ⟨_, rfl⟩) (by omega) (by omega) (⟨rfl, ⟨(hd + 1) % 17, _, ?_, by omega, by omega, (pb_set_ne (Ne.symm hae)).trans pb_set_same, fun p hp => ?_⟩, rfl, fun b h1 h2 => by rw [pb_set_ne h1, pb_set_ne h2]⟩)
  · rw [pb_set_same, show ((hd + 1) % 17 + m) % 17 = (hd + (m + 1)) % 17 by omega]
    rfl
  · unfold dq_q
    by_cases c : p = hd
    · subst c
      rw [va_upS, if_neg (by omega)]
    · rw [va_upN _ _ c, k5 p hp]
      unfold dq_q
      have e1 : (p + 17 - hd) % 17 = (p + 17 - (hd + 1) % 17) % 17 + 1 := by omega
      rw [e1]
      by_cases c2 : (p + 17 - (hd + 1) % 17) % 17 < m
      · rw [if_pos c2, if_pos (by omega)]
      · rw [if_neg c2, if_neg (by omega)]
theorem jd_removeFirst (hW : dq_W h a e (m + 1) y) : pb_Ctr G mJ4_removeFirst 2 0 0 [pb_r a] h (fun oc h' => oc = .inl (some (pb_r (y 0))) ∧ dq_St h a e m (fun i => y (i + 1)) h') := by
  have hW' := hW
  obtain ⟨hd, q, k1, k2, k3, k4, k5⟩ := hW
  refine pb_Ctr.of rfl rfl rfl tJ4_removeFirst_ok rfl ?_
  (try refine pb_Ex.run rfl ?_)
  refine pb_Ex.cV rfl rfl rfl rfl k1 rfl rfl (jd_pollFirst hW') ⟨by omega, by omega, by omega⟩ (fun v h1 hq1 => ?_) (fun E q9 h1 hq1 => by cases hq1.1)
  obtain ⟨e1, e2⟩ := hq1
  cases e1
  (try refine pb_Ex.run rfl ?_)
  refine pb_Ex.ifnonnull rfl (fun a9 e9 => ?_) (fun e => by cases e)
  (try refine pb_Ex.run rfl ?_)
  cases e9
  refine pb_Ex.aret rfl rfl (by first | exact Or.inl ⟨_, rfl⟩ | exact Or.inr ⟨_, rfl⟩) (by omega) (by omega) (⟨rfl, e2⟩)
theorem jd_pop (hW : dq_W h a e (m + 1) y) : pb_Ctr G mJ4_pop 3 0 0 [pb_r a] h (fun oc h' => oc = .inl (some (pb_r (y 0))) ∧ dq_St h a e m (fun i => y (i + 1)) h') := by
  have hW' := hW
  obtain ⟨hd, q, k1, k2, k3, k4, k5⟩ := hW
  refine pb_Ctr.of rfl rfl rfl tJ4_pop_ok rfl ?_
  (try refine pb_Ex.run rfl ?_)
  refine pb_Ex.cV rfl rfl rfl rfl k1 rfl rfl (jd_removeFirst hW') ⟨by omega, by omega, by omega⟩ (fun v h1 hq1 => ?_) (fun E q9 h1 hq1 => by cases hq1.1)
  obtain ⟨e1, e2⟩ := hq1
  cases e1
  refine pb_Ex.aret rfl rfl (by first | exact Or.inl ⟨_, rfl⟩ | exact Or.inr ⟨_, rfl⟩) (by omega) (by omega) (⟨rfl, e2⟩)
theorem jd_pollLast (hW : dq_W h a e (m + 1) y) : pb_Ctr G mJ4_pollLast 1 0 0 [pb_r a] h (fun oc h' => oc = .inl (some (pb_r (y m))) ∧ dq_St h a e m y h') := by
  obtain ⟨hd, q, k1, k2, k3, k4, k5⟩ := hW
  have hae : a ≠ e := fun z => by rw [z, k4] at k1; cases k1
  refine pb_Ctr.of rfl rfl rfl tJ4_pollLast_ok rfl ?_
  (try refine pb_Ex.run rfl ?_)
  refine pb_Ex.getf rfl rfl k1 rfl ?_
  (try refine pb_Ex.run rfl ?_)
  refine pb_Ex.getf rfl rfl k1 rfl ?_
  (try refine pb_Ex.run rfl ?_)
  refine pb_Ex.alen0 (N := 17) (kd := 0) rfl (k4) rfl (by omega) ?_
  (try refine pb_Ex.run rfl ?_)
  refine pb_Ex.pS rfl rfl rfl rfl (jd_dec ((hd + (m + 1)) % 17) (by omega)) (by omega) (by omega) (by omega) ?_
  (try refine pb_Ex.run rfl ?_)
  have e0 : ((hd + (m + 1)) % 17 + 16) % 17 = (hd + m) % 17 := by omega
  rw [e0]
  (try refine pb_Ex.run rfl ?_)
  refine pb_Ex.pS rfl rfl rfl rfl (jd_at k4 ((hd + m) % 17) (by omega)) (by omega) (by omega) (by omega) ?_
  (try refine pb_Ex.run rfl ?_)
  have e1 : q ((hd + m) % 17) = some (y m) := by
    rw [k5 _ (by omega)]
    unfold dq_q
    rw [show ((hd + m) % 17 + 17 - hd) % 17 = m by omega, if_pos (by omega)]
  rw [e1]
  (try refine pb_Ex.run rfl ?_)
  refine pb_Ex.ifnull rfl (fun e => by cases e) (fun a9 e9 => ?_)
  (try refine pb_Ex.run rfl ?_)
  cases e9
  refine pb_Ex.putf rfl rfl (k1) rfl rfl (by first | trivial | exact Or.inl rfl | exact Or.inr rfl | (show _ ∨ _; omega) | (show _ ∧ _; omega)) ?_
  (try refine pb_Ex.run rfl ?_)
  refine pb_Ex.aastN ((hd + m) % 17) rfl ((pb_set_ne (Ne.symm hae)).trans k4) rfl (by omega) ?_
  refine pb_Ex.run rfl ?_
  refine pb_Ex.aret rfl rfl (by first | exact Or.inl ⟨_, rfl⟩ | exact Or.inr ⟨_, rfl⟩) (by omega) (by omega) (⟨rfl, ⟨hd, _, ?_, by omega, by omega, pb_set_same, fun p hp => ?_⟩, rfl, fun b h1 h2 => by rw [pb_set_ne h2, pb_set_ne h1]⟩)
  · rw [pb_set_ne hae, pb_set_same]
    rfl
  · unfold dq_q
    by_cases c : p = (hd + m) % 17
    · subst c
      rw [va_upS, if_neg (by omega)]
    · rw [va_upN _ _ c, k5 p hp]
      unfold dq_q
      by_cases c2 : (p + 17 - hd) % 17 < m
      · rw [if_pos c2, if_pos (by omega)]
      · rw [if_neg c2, if_neg (by omega)]
theorem jd_removeLast (hW : dq_W h a e (m + 1) y) : pb_Ctr G mJ4_removeLast 2 0 0 [pb_r a] h (fun oc h' => oc = .inl (some (pb_r (y m))) ∧ dq_St h a e m y h') := by
  have hW' := hW
  obtain ⟨hd, q, k1, k2, k3, k4, k5⟩ := hW
  refine pb_Ctr.of rfl rfl rfl tJ4_removeLast_ok rfl ?_
  (try refine pb_Ex.run rfl ?_)
  refine pb_Ex.cV rfl rfl rfl rfl k1 rfl rfl (jd_pollLast hW') ⟨by omega, by omega, by omega⟩ (fun v h1 hq1 => ?_) (fun E q9 h1 hq1 => by cases hq1.1)
  obtain ⟨e1, e2⟩ := hq1
  cases e1
  (try refine pb_Ex.run rfl ?_)
  refine pb_Ex.ifnonnull rfl (fun a9 e9 => ?_) (fun e => by cases e)
  (try refine pb_Ex.run rfl ?_)
  cases e9
  refine pb_Ex.aret rfl rfl (by first | exact Or.inl ⟨_, rfl⟩ | exact Or.inr ⟨_, rfl⟩) (by omega) (by omega) (⟨rfl, e2⟩)
theorem jd_cclear {q : Nat → Option Nat} (he : h.2 e = some (pb_aR 17 q)) (i j : Nat) (hi : i < 17) (hj : j < 17) : pb_Ctr G mJ4_circularClear 0 0 0 [pb_r e, pb_i i, pb_i j] h (fun oc h' => oc = .inl none ∧ h'.1 = h.1 ∧ (∃ q', h'.2 e = some (pb_aR 17 q') ∧ ∀ p, p < 17 → q' p = if ((i ≤ j ∧ i ≤ p ∧ p < j) ∨ (j < i ∧ (i ≤ p ∨ p < j))) then none else q p) ∧ ∀ b, b ≠ e → h'.2 b = h.2 b) := by
  refine pb_Ctr.of rfl rfl rfl tJ4_circularClear_ok rfl ?_
  (try refine pb_Ex.run rfl ?_)
  have last : ∀ (d x : Nat) (z : Int) (h1 : pb_H) (q1 : Nat → Option Nat), x + d = j → z = x → h1.1 = h.1 → h1.2 e = some (pb_aR 17 q1) → (∀ b, b ≠ e → h1.2 b = h.2 b) → (∀ p, p < 17 → (if x ≤ p ∧ p < j then none else q1 p) = if ((i ≤ j ∧ i ≤ p ∧ p < j) ∨ (j < i ∧ (i ≤ p ∨ p < j))) then none else q p) → pb_Ex G mJ4_circularClear 0 0 0 (fun oc h' => oc = .inl none ∧ h'.1 = h.1 ∧ (∃ q', h'.2 e = some (pb_aR 17 q') ∧ ∀ p, p < 17 → q' p = if ((i ≤ j ∧ i ≤ p ∧ p < j) ∨ (j < i ∧ (i ≤ p ∨ p < j))) then none else q p) ∧ ∀ b, b ≠ e → h'.2 b = h.2 b) 0 0 12 [some (pb_r e), some (pb_i z), some (pb_i j), some (pb_i j)] [] h1 := by
    intro d
    induction d with
    | zero =>
      intro x z h1 q1 hx hz k1 k2 k3 k4
      refine pb_Ex.run rfl ?_
      refine pb_Ex.icmpT rfl (by omega) (by omega) (by first | decide | (simp only [pb_cmp]; omega) | simp [pb_cmp]) ?_
      (try refine pb_Ex.run rfl ?_)
      refine pb_Ex.icmpF rfl (by omega) (by omega) (by first | decide | (simp only [pb_cmp]; omega) | simp [pb_cmp]) ?_
      (try refine pb_Ex.run rfl ?_)
      refine pb_Ex.vret rfl rfl (by omega) (by omega) (⟨rfl, k1, ⟨q1, k2, fun p hp => by rw [← k4 p hp, if_neg (by omega)]⟩, k3⟩)
    | succ d ih =>
      intro x z h1 q1 hx hz k1 k2 k3 k4
      subst hz
      refine pb_Ex.run rfl ?_
      refine pb_Ex.icmpF rfl (by omega) (by omega) (by first | decide | (simp only [pb_cmp]; omega) | simp [pb_cmp]) ?_
      (try refine pb_Ex.run rfl ?_)
      refine pb_Ex.aastN x rfl k2 rfl (by omega) ?_
      refine pb_Ex.run rfl ?_
      refine ih (x + 1) _ _ (va_up q1 x none) (by omega) (by omega) k1 pb_set_same (fun b hb => by rw [pb_set_ne hb]; exact k3 b hb) (fun p hp => ?_)
      rw [← k4 p hp]
      by_cases c : p = x
      · subst c
        rw [va_upS, if_neg (by omega), if_pos (by omega)]
      · rw [va_upN _ _ c]
        by_cases c2 : x ≤ p ∧ p < j
        · rw [if_pos c2, if_pos (by omega)]
        · rw [if_neg c2, if_neg (by omega)]
  by_cases hij : i ≤ j
  · refine pb_Ex.icmpF rfl (by omega) (by omega) (by first | decide | (simp only [pb_cmp]; omega) | simp [pb_cmp]) ?_
    (try refine pb_Ex.run rfl ?_)
    refine last (j - i) i _ h q (by omega) rfl rfl he (fun _ _ => rfl) (fun p hp => ?_)
    by_cases c : i ≤ p ∧ p < j
    · rw [if_pos c, if_pos (by omega)]
    · rw [if_neg c, if_neg (by omega)]
  · refine pb_Ex.icmpT rfl (by omega) (by omega) (by first | decide | (simp only [pb_cmp]; omega) | simp [pb_cmp]) ?_
    (try refine pb_Ex.run rfl ?_)
    refine pb_Ex.alen0 (N := 17) (kd := 0) rfl (he) rfl (by omega) ?_
    (try refine pb_Ex.run rfl ?_)
    have first : ∀ (d x : Nat) (z : Int) (h1 : pb_H) (q1 : Nat → Option Nat), x + d = 17 → i ≤ x → z = x → h1.1 = h.1 → h1.2 e = some (pb_aR 17 q1) → (∀ b, b ≠ e → h1.2 b = h.2 b) → (∀ p, p < 17 → q1 p = if i ≤ p ∧ p < x then none else q p) → pb_Ex G mJ4_circularClear 0 0 0 (fun oc h' => oc = .inl none ∧ h'.1 = h.1 ∧ (∃ q', h'.2 e = some (pb_aR 17 q') ∧ ∀ p, p < 17 → q' p = if ((i ≤ j ∧ i ≤ p ∧ p < j) ∨ (j < i ∧ (i ≤ p ∨ p < j))) then none else q p) ∧ ∀ b, b ≠ e → h'.2 b = h.2 b) 0 0 12 [some (pb_r e), some (pb_i z), some (pb_i j), some (pb_i (17 : Nat))] [] h1 := by
      intro d
      induction d with
      | zero =>
        intro x z h1 q1 hx hx2 hz k1 k2 k3 k4
        refine pb_Ex.run rfl ?_
        refine pb_Ex.icmpT rfl (by omega) (by omega) (by first | decide | (simp only [pb_cmp]; omega) | simp [pb_cmp]) ?_
        (try refine pb_Ex.run rfl ?_)
        refine pb_Ex.icmpT rfl (by omega) (by omega) (by first | decide | (simp only [pb_cmp]; omega) | simp [pb_cmp]) ?_
        (try refine pb_Ex.run rfl ?_)
        refine last j 0 _ h1 q1 (by omega) rfl k1 k2 k3 (fun p hp => ?_)
        rw [k4 p hp]
        by_cases c : p < j
        · rw [if_pos (by omega), if_pos (by omega)]
        · rw [if_neg (by omega)]
          by_cases c2 : i ≤ p
          · rw [if_pos (by omega), if_pos (by omega)]
          · rw [if_neg (by omega), if_neg (by omega)]
      | succ d ih =>
        intro x z h1 q1 hx hx2 hz k1 k2 k3 k4
        subst hz
        refine pb_Ex.run rfl ?_
        refine pb_Ex.icmpF rfl (by omega) (by omega) (by first | decide | (simp only [pb_cmp]; omega) | simp [pb_cmp]) ?_
        (try refine pb_Ex.run rfl ?_)
        refine pb_Ex.aastN x rfl k2 rfl (by omega) ?_
        refine pb_Ex.run rfl ?_
        refine ih (x + 1) _ _ (va_up q1 x none) (by omega) (by omega) (by omega) k1 pb_set_same (fun b hb => by rw [pb_set_ne hb]; exact k3 b hb) (fun p hp => ?_)
        by_cases c : p = x
        · subst c
          rw [va_upS, if_pos (by omega)]
        · rw [va_upN _ _ c, k4 p hp]
          by_cases c2 : i ≤ p ∧ p < x
          · rw [if_pos c2, if_pos (by omega)]
          · rw [if_neg c2, if_neg (by omega)]
    refine first (17 - i) i _ h q (by omega) (by omega) rfl rfl he (fun _ _ => rfl) (fun p hp => ?_)
    rw [if_neg (by omega)]
theorem jd_clear (hW : dq_W h a e m y) : pb_Ctr G mJ4_clear 1 0 0 [pb_r a] h (fun oc h' => oc = .inl none ∧ dq_St h a e 0 y h') := by
  obtain ⟨hd, q, k1, k2, k3, k4, k5⟩ := hW
  have hae : a ≠ e := fun z => by rw [z, k4] at k1; cases k1
  refine pb_Ctr.of rfl rfl rfl tJ4_clear_ok rfl ?_
  (try refine pb_Ex.run rfl ?_)
  refine pb_Ex.getf rfl rfl k1 rfl ?_
  (try refine pb_Ex.run rfl ?_)
  refine pb_Ex.getf rfl rfl k1 rfl ?_
  (try refine pb_Ex.run rfl ?_)
  refine pb_Ex.getf rfl rfl k1 rfl ?_
  (try refine pb_Ex.run rfl ?_)
  refine pb_Ex.cS rfl rfl rfl rfl (jd_cclear k4 hd ((hd + m) % 17) k2 (by omega)) ⟨by omega, by omega, by omega⟩ (fun v h1 hq1 => ?_) (fun E q9 h1 hq1 => by cases hq1.1)
  obtain ⟨e1, e2, ⟨q', e3, e4⟩, e5⟩ := hq1
  cases e1
  (try refine pb_Ex.run rfl ?_)
  refine pb_Ex.putf rfl rfl ((e5 _ hae).trans k1) rfl rfl (by first | trivial | exact Or.inl rfl | exact Or.inr rfl | (show _ ∨ _; omega) | (show _ ∧ _; omega)) ?_
  (try refine pb_Ex.run rfl ?_)
  refine pb_Ex.putf rfl rfl (pb_set_same) rfl rfl (by first | trivial | exact Or.inl rfl | exact Or.inr rfl | (show _ ∨ _; omega) | (show _ ∧ _; omega)) ?_
  (try refine pb_Ex.run rfl ?_)
  refine pb_Ex.vret rfl rfl (by omega) (by omega) (⟨rfl, ⟨0, q', pb_set_same, by omega, by omega, (pb_set_ne (Ne.symm hae)).trans ((pb_set_ne (Ne.symm hae)).trans e3), fun p hp => ?_⟩, e2, fun b h1 h2 => by rw [pb_set_ne h1, pb_set_ne h1, e5 _ h2]⟩)
  rw [e4 p hp, k5 p hp]
  unfold dq_q
  rw [if_neg (show ¬ (p + 17 - 0) % 17 < 0 by omega)]
  by_cases c : (p + 17 - hd) % 17 < m
  · rw [if_pos (by omega)]
  · rw [if_neg c]
    split <;> rfl
end DQ
