set_option maxRecDepth 100000
/-! LISTS (java.util.ArrayList) -/
/-- the list at a, its cells at e, n objects g -/
def al_W (K : co_K) (h : pb_H) (a e n : Nat) (g : Nat → Nat) : Prop := ∃ (mc : Int) (cap : Nat) (q : Nat → Option Nat), h.2 a = some (pb_ob 12 [pb_i mc, pb_r e, pb_i n]) ∧ h.2 e = some (pb_aR cap q) ∧ n ≤ cap ∧ (cap = 0 ∨ cap = 10 ∨ cap = 15) ∧ (cap = 0 ↔ e = co_E K) ∧ ∀ j, j < n → q j = some (g j) ∧ ∃ ci fs, ci ≠ 12 ∧ h.2 (g j) = some (pb_ob ci fs)
theorem al_W.fr {K : co_K} {h h' : pb_H} {a e n : Nat} {g : Nat → Nat} {P : Nat → pb_C → Prop} (hW : al_W K h a e n g) (hx : fr_P P h h') (h1 : ∀ c, h.2 a = some c → P a c) (h2 : ∀ c, h.2 e = some c → P e c) (h3 : ∀ j, j < n → ∀ ci fs, h.2 (g j) = some (pb_ob ci fs) → P (g j) (pb_ob ci fs)) : al_W K h' a e n g := by
  obtain ⟨mc, cap, q, ho, he, hn, hc, hE, hq⟩ := hW
  refine ⟨mc, cap, q, hx.2 _ _ ho (h1 _ ho), hx.2 _ _ he (h2 _ he), hn, hc, hE, fun j hj => ?_⟩
  obtain ⟨q1, ci, fs, q3, q2⟩ := hq j hj
  exact ⟨q1, ci, fs, q3, hx.2 _ _ q2 (h3 j hj ci fs q2)⟩
theorem al_W.x {K : co_K} {h h' : pb_H} {a e n : Nat} {g : Nat → Nat} (hW : al_W K h a e n g) (hx : fr_x h h') : al_W K h' a e n g := hW.fr hx (fun _ _ => trivial) (fun _ _ => trivial) (fun _ _ _ _ _ => trivial)
theorem al_W.obj {K : co_K} {h : pb_H} {a e n : Nat} {g : Nat → Nat} (hW : al_W K h a e n g) : ∃ mc : Int, h.2 a = some (pb_ob 12 [pb_i mc, pb_r e, pb_i n]) := by
  obtain ⟨mc, cap, q, ho, -⟩ := hW
  exact ⟨mc, ho⟩
theorem al_W.le {K : co_K} {h : pb_H} {a e n : Nat} {g : Nat → Nat} (hW : al_W K h a e n g) : n ≤ 15 := by
  obtain ⟨mc, cap, q, ho, he, hn, hc, -⟩ := hW
  omega
theorem al_W.cg {K : co_K} {h : pb_H} {a e n : Nat} {g g' : Nat → Nat} (hW : al_W K h a e n g) (hg : ∀ j, j < n → g' j = g j) : al_W K h a e n g' := by
  obtain ⟨mc, cap, q, ho, he, hn, hc, hE, hq⟩ := hW
  refine ⟨mc, cap, q, ho, he, hn, hc, hE, fun j hj => ?_⟩
  rw [hg j hj]
  exact hq j hj
section ALIST
variable {G : pb_G} {K : co_K} {h : pb_H} {a e m : Nat} {g : Nat → Nat}
theorem ja_chk (i z : Int) (r : Option Nat) (h0 : 0 ≤ i) (h1 : i < z) (hn : z < 2147483648) : pb_Ctr G mJ10_checkIndex 0 0 0 [pb_i i, pb_i z, pb_q r] h (pb_P (some (pb_i i)) h) := by
  refine pb_Ctr.of rfl rfl rfl tJ10_checkIndex_ok rfl ?_
  (try refine pb_Ex.run rfl ?_)
  refine pb_Ex.ifF rfl (by omega) (by first | decide | (simp only [pb_cmp]; omega) | simp [pb_cmp]) ?_
  (try refine pb_Ex.run rfl ?_)
  refine pb_Ex.icmpT rfl (by omega) (by omega) (by first | decide | (simp only [pb_cmp]; omega) | simp [pb_cmp]) ?_
  (try refine pb_Ex.run rfl ?_)
  refine pb_Ex.iret rfl rfl (by omega) (by omega) (⟨rfl, rfl⟩)
theorem ja_chk2 (i z : Int) (h0 : 0 ≤ i) (h1 : i < z) (hn : z < 2147483648) : pb_Ctr G mJ9_checkIndex 1 0 0 [pb_i i, pb_i z] h (pb_P (some (pb_i i)) h) := by
  refine pb_Ctr.of rfl rfl rfl tJ9_checkIndex_ok rfl ?_
  (try refine pb_Ex.run rfl ?_)
  refine pb_Ex.pS rfl rfl rfl rfl (ja_chk i z none h0 h1 hn) (by omega) (by omega) (by omega) ?_
  (try refine pb_Ex.run rfl ?_)
  refine pb_Ex.iret rfl rfl (by omega) (by omega) (⟨rfl, rfl⟩)
theorem ja_size (hW : al_W K h a e m g) : pb_Ctr G mJ2_size 0 0 0 [pb_r a] h (pb_P (some (pb_i m)) h) := by
  obtain ⟨mc, cap, q, ho, he, hn, hc, hE, hq⟩ := hW
  refine pb_Ctr.of rfl rfl rfl tJ2_size_ok rfl ?_
  (try refine pb_Ex.run rfl ?_)
  refine pb_Ex.getf rfl rfl ho rfl ?_
  (try refine pb_Ex.run rfl ?_)
  refine pb_Ex.iret rfl rfl (by omega) (by omega) (⟨rfl, rfl⟩)
theorem ja_isEmpty (hW : al_W K h a e m g) : pb_Ctr G mJ2_isEmpty 0 0 0 [pb_r a] h (pb_P (some (pb_i (if m = 0 then 1 else 0))) h) := by
  obtain ⟨mc, cap, q, ho, he, hn, hc, hE, hq⟩ := hW
  refine pb_Ctr.of rfl rfl rfl tJ2_isEmpty_ok rfl ?_
  (try refine pb_Ex.run rfl ?_)
  refine pb_Ex.getf rfl rfl ho rfl ?_
  (try refine pb_Ex.run rfl ?_)
  refine pb_Ex.if_ne rfl (by omega) (fun c => ?_) (fun c => ?_)
  · rw [if_neg (by omega)]
    refine pb_Ex.run rfl ?_
    refine pb_Ex.zret (ty := .boolean) rfl rfl (pb_nb (Or.inl rfl)).1 (by omega) (by omega) (⟨rfl, rfl⟩)
  · rw [if_pos (by omega)]
    refine pb_Ex.run rfl ?_
    refine pb_Ex.zret (ty := .boolean) rfl rfl (pb_nb (Or.inr rfl)).1 (by omega) (by omega) (⟨rfl, rfl⟩)
theorem ja_el (hW : al_W K h a e m g) (j : Nat) (hj : j < m) : pb_Ctr G mJ2_elementData 0 0 0 [pb_r a, pb_i j] h (pb_P (some (pb_r (g j))) h) := by
  obtain ⟨mc, cap, q, ho, he, hn, hc, hE, hq⟩ := hW
  refine pb_Ctr.of rfl rfl rfl tJ2_elementData_ok rfl ?_
  (try refine pb_Ex.run rfl ?_)
  refine pb_Ex.getf rfl rfl ho rfl ?_
  (try refine pb_Ex.run rfl ?_)
  refine pb_Ex.aat (j) rfl (he) (by omega) (by omega) ?_
  (try refine pb_Ex.run rfl ?_)
  rw [(hq j hj).1]
  refine pb_Ex.aret rfl rfl (by first | exact Or.inl ⟨_, rfl⟩ | exact Or.inr ⟨_, rfl⟩) (by omega) (by omega) (⟨rfl, rfl⟩)
theorem ja_get (hW : al_W K h a e m g) (j : Nat) (hj : j < m) : pb_Ctr G mJ2_get 2 0 0 [pb_r a, pb_i j] h (pb_P (some (pb_r (g j))) h) := by
  have hW' := hW
  obtain ⟨mc, cap, q, ho, he, hn, hc, hE, hq⟩ := hW
  refine pb_Ctr.of rfl rfl rfl tJ2_get_ok rfl ?_
  (try refine pb_Ex.run rfl ?_)
  refine pb_Ex.getf rfl rfl ho rfl ?_
  (try refine pb_Ex.run rfl ?_)
  refine pb_Ex.pS rfl rfl rfl rfl (ja_chk2 j m (by omega) (by omega) (by omega)) (by omega) (by omega) (by omega) ?_
  (try refine pb_Ex.run rfl ?_)
  refine pb_Ex.pV rfl rfl rfl rfl (ho) rfl rfl (ja_el hW' j hj) (by omega) (by omega) (by omega) ?_
  (try refine pb_Ex.run rfl ?_)
  refine pb_Ex.aret rfl rfl (by first | exact Or.inl ⟨_, rfl⟩ | exact Or.inr ⟨_, rfl⟩) (by omega) (by omega) (⟨rfl, rfl⟩)
theorem ja_init0 (hb : h.2 a = some (pb_ob 12 [pb_i 0, pb_0, pb_i 0])) : pb_Ctr G mJ0_init 1 0 0 [pb_r a] h (fun oc h' => oc = .inl none ∧ h' = h) := by
  refine pb_Ctr.of rfl rfl rfl tJ0_init_ok rfl ?_
  (try refine pb_Ex.run rfl ?_)
  refine pb_Ex.objI rfl rfl rfl (by omega) ?_
  (try refine pb_Ex.run rfl ?_)
  refine pb_Ex.vret rfl rfl (by omega) (by omega) (⟨rfl, rfl⟩)
theorem ja_init1 (hb : h.2 a = some (pb_ob 12 [pb_i 0, pb_0, pb_i 0])) : pb_Ctr G mJ1_init 2 0 0 [pb_r a] h (fun oc h' => oc = .inl none ∧ h' = pb_set h a (pb_ob 12 [pb_i 0, pb_0, pb_i 0])) := by
  refine pb_Ctr.of rfl rfl rfl tJ1_init_ok rfl ?_
  (try refine pb_Ex.run rfl ?_)
  refine pb_Ex.cIo rfl rfl rfl rfl (ja_init0 hb) (by omega) (by omega) (by omega) (fun h1 e1 => ?_)
  subst e1
  refine pb_Ex.run rfl ?_
  refine pb_Ex.putf0 rfl (pb_fdk RJ2 "java/util/AbstractList" TJ2 3 (k := 0) (ci := 12) rfl (by decide) q147 (Or.inl rfl)) hb (Or.inl rfl) (fun r hr => by cases hr; exact Or.inl rfl) trivial (by decide) ?_
  refine pb_Ex.vret rfl rfl (by omega) (by omega) (⟨rfl, rfl⟩)
/-- an empty list -/
theorem ja_init (hG : co_G G K) (hb : h.2 a = some (pb_ob 12 [pb_i 0, pb_0, pb_i 0])) : pb_Ctr G mJ2_init 3 0 0 [pb_r a] h (fun oc h' => oc = .inl none ∧ h'.1 = h.1 ∧ h'.2 a = some (pb_ob 12 [pb_i 0, pb_r (co_E K), pb_i 0]) ∧ ∀ b, b ≠ a → h'.2 b = h.2 b) := by
  refine pb_Ctr.of rfl rfl rfl tJ2_init_ok rfl ?_
  (try refine pb_Ex.run rfl ?_)
  refine pb_Ex.cIo rfl rfl rfl rfl (ja_init1 hb) (by omega) (by omega) (by omega) (fun h1 e1 => ?_)
  subst e1
  refine pb_Ex.run rfl ?_
  refine pb_Ex.gets rfl hG.2.1.1 q143 ?_
  refine pb_Ex.putf rfl rfl (pb_set_same) rfl rfl (by first | trivial | exact Or.inl rfl | exact Or.inr rfl | (show _ ∨ _; omega) | (show _ ∧ _; omega)) ?_
  (try refine pb_Ex.run rfl ?_)
  refine pb_Ex.vret rfl rfl (by omega) (by omega) (⟨rfl, rfl, pb_set_same, fun b hb => by rw [pb_set_ne hb, pb_set_ne hb]⟩)
theorem al_W.emp {K : co_K} {h : pb_H} {a : Nat} {g : Nat → Nat} (hK : co_W K h) (hb : h.2 a = some (pb_ob 12 [pb_i 0, pb_r (co_E K), pb_i 0])) : al_W K h a (co_E K) 0 g := by
  obtain ⟨q, hq⟩ := hK.1
  exact ⟨0, 0, q, hb, hq, Nat.le_refl _, Or.inl rfl, ⟨fun _ => rfl, fun _ => rfl⟩, fun j hj => absurd hj (Nat.not_lt_zero _)⟩
theorem jx_newLength (o mi pr : Nat) (h1 : o ≤ 100000) (h2 : 0 < mi) (h3 : mi ≤ 100000) (h4 : pr ≤ 100000) : pb_Ctr G mJ12_newLength 1 0 0 [pb_i o, pb_i mi, pb_i pr] h (pb_P (some (pb_i (o + max mi pr : Nat))) h) := by
  refine pb_Ctr.of rfl rfl rfl tJ12_newLength_ok rfl ?_
  (try refine pb_Ex.run rfl ?_)
  refine pb_Ex.mmax rfl rfl (by omega) (by omega) rfl (by omega) (by omega) (by omega) ?_
  (try refine pb_Ex.run rfl ?_)
  refine pb_Ex.icmpF rfl (by omega) (by omega) (by first | decide | (simp only [pb_cmp]; omega) | simp [pb_cmp]) ?_
  (try refine pb_Ex.run rfl ?_)
  refine pb_Ex.ldcI 2147483639 rfl q482 ?_
  refine pb_Ex.icmpF rfl (by omega) (by omega) (by first | decide | (simp only [pb_cmp]; omega) | simp [pb_cmp]) ?_
  (try refine pb_Ex.run rfl ?_)
  have e : (o : Int) + max (mi : Int) pr = ((o + max mi pr : Nat) : Int) := by omega
  rw [e]
  refine pb_Ex.iret rfl rfl (by omega) (by omega) (⟨rfl, rfl⟩)
theorem jx_copyOf2 {b cap N : Nat} {q : Nat → Option Nat} (hG : co_G G K) (hb : h.2 b = some (pb_aR cap q)) (hc : cap ≤ N) (hN : N ≤ 1000) (hN0 : 0 < N) (hq : ∀ i, i < cap → ∀ y, q i = some y → ∃ ci fs, h.2 y = some (pb_ob ci fs)) : pb_Ctr G mJ13_copyOf_2 2 1 N [pb_r b, pb_i N, pb_r (co_mi K)] h (fun oc h' => oc = .inl (some (pb_r h.1)) ∧ h'.1 = h.1 + 1 ∧ (∃ q', h'.2 h.1 = some (pb_aR N q') ∧ ∀ j, j < cap → q' j = q j) ∧ ∀ x, x ≠ h.1 → h'.2 x = h.2 x) := by
  refine pb_Ctr.of rfl rfl rfl tJ13_copyOf_2_ok rfl ?_
  (try refine pb_Ex.run rfl ?_)
  refine pb_Ex.fin (fun hf => ?_)
  have hbl := hf b _ hb
  refine pb_Ex.ldcM rfl rfl hG.2.2.2.1 ?_
  refine pb_Ex.acmp_ne rfl (fun e => absurd rfl e) (fun _ => ?_)
  refine pb_Ex.run rfl ?_
  refine pb_Ex.newO N rfl rfl rfl (by omega) (by omega) (by omega) ?_
  refine pb_Ex.run rfl ?_
  have hb2 : (pb_new h (pb_aR N (fun _ => none))).2 b = some (pb_aR cap q) := by rw [pb_new_ne (by omega)]; exact hb
  refine pb_Ex.alen0 (N := cap) (kd := 0) rfl (hb2) rfl (by omega) ?_
  (try refine pb_Ex.run rfl ?_)
  refine pb_Ex.mmin rfl rfl (by omega) (by omega) rfl (by omega) (by omega) (by omega) ?_
  (try refine pb_Ex.run rfl ?_)
  refine pb_Ex.acpR 0 0 cap rfl rfl hb2 pb_new_same rfl rfl (by omega) (by omega) (by omega) (by omega) (fun i hi y hy => ?_) rfl (by omega) ?_
  · rw [Nat.zero_add] at hy
    obtain ⟨ci, fs, h9⟩ := hq i hi y hy
    have := hf _ _ h9
    exact ⟨ci, fs, by rw [pb_new_ne (by omega)]; exact h9⟩
  · refine pb_Ex.run rfl ?_
    refine pb_Ex.aret rfl rfl (by first | exact Or.inl ⟨_, rfl⟩ | exact Or.inr ⟨_, rfl⟩) (by omega) (by omega) (⟨rfl, rfl, ⟨_, pb_set_same, fun j hj => by unfold va_cpy; simp [hj]⟩, fun x hx => by rw [pb_set_ne hx, pb_new_ne hx]⟩)
theorem jx_copyOf {b cap N : Nat} {q : Nat → Option Nat} (hG : co_G G K) (hb : h.2 b = some (pb_aR cap q)) (hc : cap ≤ N) (hN : N ≤ 1000) (hN0 : 0 < N) (hq : ∀ i, i < cap → ∀ y, q i = some y → ∃ ci fs, h.2 y = some (pb_ob ci fs)) : pb_Ctr G mJ13_copyOf 3 1 N [pb_r b, pb_i N] h (fun oc h' => oc = .inl (some (pb_r h.1)) ∧ h'.1 = h.1 + 1 ∧ (∃ q', h'.2 h.1 = some (pb_aR N q') ∧ ∀ j, j < cap → q' j = q j) ∧ ∀ x, x ≠ h.1 → h'.2 x = h.2 x) := by
  refine pb_Ctr.of rfl rfl rfl tJ13_copyOf_ok rfl ?_
  (try refine pb_Ex.run rfl ?_)
  refine pb_Ex.getCO rfl q489 q2447 q2446 q490 q520 hb rfl (by omega) hG.2.2.2.1 ?_
  refine pb_Ex.cS rfl rfl rfl rfl (jx_copyOf2 hG hb hc hN hN0 hq) ⟨by omega, by omega, by omega⟩ (fun v h1 hq1 => ?_) (fun E q9 h1 hq1 => by cases hq1.1)
  obtain ⟨e1, e2⟩ := hq1
  cases e1
  refine pb_Ex.aret rfl rfl (by first | exact Or.inl ⟨_, rfl⟩ | exact Or.inr ⟨_, rfl⟩) (by omega) (by omega) (⟨rfl, e2⟩)
end ALIST
