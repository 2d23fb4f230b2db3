set_option maxRecDepth 100000
/-! STRINGBUILDERS of letters below 128 -/
/-- a StringBuilder at o: cap bytes at e, n letters s -/
def sb_C (G : pb_G) (h : pb_H) (o e cap n : Nat) (s : Nat → Int) : Prop := ∃ (ml : Int) (g : Nat → Int), (ml = 0 ∨ ml = 1) ∧ h.2 o = some (pb_ob 14 [pb_r e, pb_i 0, pb_i ml, pb_i n]) ∧ h.2 e = some (pb_aI 4 cap g) ∧ pb_b G ≤ e ∧ n ≤ cap ∧ cap ≤ 400 ∧ (∀ j, j < cap → -128 ≤ g j ∧ g j < 128) ∧ ∀ j, j < n → g j = s j ∧ 0 ≤ s j ∧ s j < 128
def sb_W (G : pb_G) (h : pb_H) (o e n : Nat) (s : Nat → Int) : Prop := ∃ cap, sb_C G h o e cap n s
theorem sb_W.fr {G : pb_G} {h h' : pb_H} {o e n : Nat} {s : Nat → Int} {P : Nat → pb_C → Prop} (hW : sb_W G h o e n s) (hx : fr_P P h h') (h1 : ∀ c, h.2 o = some c → P o c) (h2 : ∀ c, h.2 e = some c → P e c) : sb_W G h' o e n s := by
  obtain ⟨cap, ml, g, k1, k2, k3, k4⟩ := hW
  exact ⟨cap, ml, g, k1, hx.2 _ _ k2 (h1 _ k2), hx.2 _ _ k3 (h2 _ k3), k4⟩
theorem sb_W.obj {G : pb_G} {h : pb_H} {o e n : Nat} {s : Nat → Int} (hW : sb_W G h o e n s) : ∃ fs, h.2 o = some (pb_ob 14 fs) := by
  obtain ⟨cap, ml, g, k1, k2, -⟩ := hW
  exact ⟨_, k2⟩
/-- behind a change: more letters -/
def sb_St (G : pb_G) (h : pb_H) (o e n' : Nat) (s' : Nat → Int) (h' : pb_H) : Prop := ∃ e', sb_W G h' o e' n' s' ∧ (e' = e ∨ e' = h.1) ∧ h'.1 ≤ h.1 + 1 ∧ fr_P (fun b _ => b ≠ o ∧ b ≠ e) h h'
/-- behind the growing of the bytes -/
def sb_Gr (G : pb_G) (h : pb_H) (o e n : Nat) (s : Nat → Int) (mi : Nat) (h' : pb_H) : Prop := ∃ e' cap', sb_C G h' o e' cap' n s ∧ mi ≤ cap' ∧ (e' = e ∨ e' = h.1) ∧ h'.1 ≤ h.1 + 1 ∧ fr_P (fun b _ => b ≠ o) h h'
theorem ok_ens : pb_MOK mJ5_ensureCapacityInternal 1 := ⟨rfl, ⟨by decide +kernel, by decide +kernel⟩, by decide +kernel, by decide, q1426, q81⟩
theorem ok_nc : pb_MOK mJ5_newCapacity 1 := ⟨rfl, ⟨by decide +kernel, by decide +kernel⟩, by decide +kernel, by decide, q1430, q81⟩
theorem ok_lat : pb_MOK mJ5_isLatin1 0 := ⟨rfl, ⟨by decide +kernel, by decide +kernel⟩, by decide +kernel, by decide, q1447, q81⟩
theorem ok_put : pb_MOK mJ5_putStringAt 2 := ⟨rfl, ⟨by decide +kernel, by decide +kernel⟩, by decide +kernel, by decide, q1558, q81⟩
theorem ok_inn : pb_MOK mJ5_inflateIfNeededFor 1 := ⟨rfl, ⟨by decide +kernel, by decide +kernel⟩, by decide +kernel, by decide, q1562, q81⟩
theorem ok_gv : pb_MOK mJ5_getValue 0 := ⟨rfl, ⟨by decide +kernel, by decide +kernel⟩, by decide +kernel, by decide, q1586, q81⟩
theorem ok_aI : pb_MOK mJ5_append 1 := ⟨rfl, ⟨by decide +kernel, by decide +kernel⟩, by decide +kernel, by decide, q1419, q81⟩
theorem ok_aC : pb_MOK mJ5_append_2 1 := ⟨rfl, ⟨by decide +kernel, by decide +kernel⟩, by decide +kernel, by decide, q1492, q81⟩
theorem ok_aS : pb_MOK mJ5_append_3 1 := ⟨rfl, ⟨by decide +kernel, by decide +kernel⟩, by decide +kernel, by decide, q1539, q81⟩
theorem ok_len : pb_MOK mJ5_length 0 := ⟨rfl, ⟨by decide +kernel, by decide +kernel⟩, by decide +kernel, by decide, q1594, q81⟩
theorem ok_sl : pb_MOK mJ5_setLength 1 := ⟨rfl, ⟨by decide +kernel, by decide +kernel⟩, by decide +kernel, by decide, q1685, q81⟩
theorem sl_ens : pb_sl "java/lang/StringBuilder" mJ5_ensureCapacityInternal.2.1 mJ5_ensureCapacityInternal.2.1 := Or.inr ⟨rfl, ⟨by decide +kernel, by decide +kernel⟩, q1424, q1425, _, q1446, rfl⟩
theorem sl_nc : pb_sl "java/lang/StringBuilder" mJ5_newCapacity.2.1 mJ5_newCapacity.2.1 := Or.inr ⟨rfl, ⟨by decide +kernel, by decide +kernel⟩, q1428, q1429, _, q1446, rfl⟩
theorem sl_put : pb_sl "java/lang/StringBuilder" mJ5_putStringAt.2.1 mJ5_putStringAt.2.1 := Or.inr ⟨rfl, ⟨by decide +kernel, by decide +kernel⟩, q1556, q1557, _, q1446, rfl⟩
theorem sl_inn : pb_sl "java/lang/StringBuilder" mJ5_inflateIfNeededFor.2.1 mJ5_inflateIfNeededFor.2.1 := Or.inr ⟨rfl, ⟨by decide +kernel, by decide +kernel⟩, q1560, q1561, _, q1446, rfl⟩
section ROWS62
variable {G : pb_G} {M M2 : pb_M} {n C S n2 C2 S2 : Nat} {Q Q2 : pb_O → pb_H → Prop} {k u pc : Nat} {L : List (Option pb_V)} {st a rest : List pb_V} {h : pb_H}
/-- a call of one of AbstractStringBuilder's methods -/
theorem pb_Ex.cA {nx tg idx np b : Nat} {As fs : List pb_V} {v : Option pb_V} {Qn : pb_H → Prop} (hi : pb_ig (pb_tb M) pc = some (.invokevirtual idx, nx, tg)) (hl : Cond.methodLink (pb_cn M.1) idx M2.2.1 ∈ lw_all) (hs : Cond.instanceMethod M2.2.1 ∈ lw_all) (hse : pb_sl "java/lang/StringBuilder" M2.2.1 M2.2.1) (hM : pb_MOK M2 np) (hst : pb_take (np + 1) st [] = some (pb_r b :: As, rest)) (hsm : pb_sm rest = true) (hb9 : h.2 b = some (pb_ob 14 fs)) (hc : pb_Ctr G M2 n2 C2 S2 (pb_r b :: As) h (fun oc h' => oc = .inl v ∧ Qn h')) (hr : n2 < n) (hk9 : k + C2 ≤ C) (hu9 : u + S2 ≤ S)
    (kk : ∀ h' : pb_H, Qn h' → pb_Ex G M n C S Q (k + C2) (u + S2) nx L (v.toList ++ rest) h') : pb_Ex G M n C S Q k u pc L st h :=
  pb_Ex.callVC "java/lang/StringBuilder" hi hl hs hse hM hst hsm (pb_rc.of hb9 (fun r hr => by cases hr; rfl)) hc ⟨hr, hk9, hu9⟩ (fun v' h' hq => by obtain ⟨e1, e2⟩ := hq; cases e1; exact kk h' e2) (fun E q h' hq => by cases hq.1)
/-- super.m(..) of a StringBuilder -/
theorem pb_Ex.cAS {nx tg idx np b : Nat} {As fs : List pb_V} {v : Option pb_V} {Qn : pb_H → Prop} (ho : Nat.beq M.1 26 = true) (hcl2 : M2.2.1.cls = "java/lang/AbstractStringBuilder") (hi : pb_ig (pb_tb M) pc = some (.invokespecial idx, nx, tg)) (hl : Cond.methodLink (pb_cn M.1) idx M2.2.1 ∈ lw_all) (hsa : Cond.sameMethod M2.2.1.cls M2.2.1.cls M2.2.1.name M2.2.1.desc ∈ lw_all) (hs : Cond.instanceMethod M2.2.1 ∈ lw_all) (hni : M2.2.1.name ≠ "<init>") (hM : pb_MOK M2 np) (hst : pb_take (np + 1) st [] = some (pb_r b :: As, rest)) (hsm : pb_sm rest = true) (hb9 : h.2 b = some (pb_ob 14 fs)) (hc : pb_Ctr G M2 n2 C2 S2 (pb_r b :: As) h (fun oc h' => oc = .inl v ∧ Qn h')) (hr : n2 < n) (hk9 : k + C2 ≤ C) (hu9 : u + S2 ≤ S)
    (kk : ∀ h' : pb_H, Qn h' → pb_Ex G M n C S Q (k + C2) (u + S2) nx L (v.toList ++ rest) h') : pb_Ex G M n C S Q k u pc L st h :=
  pb_Ex.callSU (C0 := RJ6) (T0 := TJ6) (N := 4) hi hl hsa (by rw [Nat.eq_of_beq_eq_true ho, hcl2]; exact q250) hs hni hM hst hsm hb9 rfl hc ⟨hr, hk9, hu9⟩ (fun v' h' hq => by obtain ⟨e1, e2⟩ := hq; cases e1; exact kk h' e2) (fun E q h' hq => by cases hq.1)
theorem pb_Ex.base (kk : pb_b G ≤ h.1 → pb_Ex G M n C S Q k u pc L st h) : pb_Ex G M n C S Q k u pc L st h := by
  intro p e R s m args below meth c X H locs ls hR hO hL hl hn
  exact kk hR.2.1 p e R s m args below meth c X H locs ls hR hO hL hl hn
end ROWS62
section SB
variable {G : pb_G} {K : co_K} {h : pb_H} {o e cap m : Nat} {s : Nat → Int}
theorem js_lat (hG : co_G G K) (hC : sb_C G h o e cap m s) : pb_Ctr G mJ5_isLatin1 0 0 0 [pb_r o] h (fun oc h' => oc = .inl (some (pb_i 1)) ∧ h' = h) := by
  obtain ⟨ml, g, k1, k2, k3, k4, k5, k6, k7, k8⟩ := hC
  refine pb_Ctr.of rfl rfl rfl tJ5_isLatin1_ok rfl ?_
  (try refine pb_Ex.run rfl ?_)
  refine pb_Ex.gets rfl hG.2.1.2.1 q228 ?_
  refine pb_Ex.ifF rfl (by omega) (by first | decide | (simp only [pb_cmp]; omega) | simp [pb_cmp]) ?_
  (try refine pb_Ex.run rfl ?_)
  refine pb_Ex.getf rfl rfl k2 rfl ?_
  (try refine pb_Ex.run rfl ?_)
  refine pb_Ex.ifF rfl (by omega) (by first | decide | (simp only [pb_cmp]; omega) | simp [pb_cmp]) ?_
  (try refine pb_Ex.run rfl ?_)
  refine pb_Ex.zret (ty := .boolean) rfl rfl (pb_nb (Or.inr rfl)).1 (by omega) (by omega) (⟨rfl, rfl⟩)
theorem jx_copyOfB {b N : Nat} {g : Nat → Int} (hb : h.2 b = some (pb_aI 4 cap g)) (hc : cap < N) (hN : N ≤ 1000) (hg : ∀ j, j < cap → -128 ≤ g j ∧ g j < 128) : pb_Ctr G mJ13_copyOf_3 1 1 N [pb_r b, pb_i N] h (fun oc h' => oc = .inl (some (pb_r h.1)) ∧ h'.1 = h.1 + 1 ∧ pb_b G ≤ h.1 ∧ (∃ g', h'.2 h.1 = some (pb_aI 4 N g') ∧ (∀ j, j < N → -128 ≤ g' j ∧ g' j < 128) ∧ ∀ j, j < cap → g' j = g j) ∧ ∀ x, x ≠ h.1 → h'.2 x = h.2 x) := by
  refine pb_Ctr.of rfl rfl rfl tJ13_copyOf_3_ok rfl ?_
  (try refine pb_Ex.run rfl ?_)
  refine pb_Ex.fin (fun hf => ?_)
  have hbl := hf b _ hb
  refine pb_Ex.alen0 (N := cap) (kd := 0) rfl (hb) rfl (by omega) ?_
  (try refine pb_Ex.run rfl ?_)
  refine pb_Ex.icmpT rfl (by omega) (by omega) (by first | decide | (simp only [pb_cmp]; omega) | simp [pb_cmp]) ?_
  (try refine pb_Ex.run rfl ?_)
  refine pb_Ex.newB N rfl rfl (by omega) (by omega) (by omega) (fun hbG => ?_)
  refine pb_Ex.run rfl ?_
  have hb2 : (pb_new h (pb_aI 4 N (fun _ => 0))).2 b = some (pb_aI 4 cap g) := by rw [pb_new_ne (by omega)]; exact hb
  refine pb_Ex.alen0 (N := cap) (kd := 0) rfl (hb2) rfl (by omega) ?_
  (try refine pb_Ex.run rfl ?_)
  refine pb_Ex.mmin rfl rfl (by omega) (by omega) rfl (by omega) (by omega) (by omega) ?_
  (try refine pb_Ex.run rfl ?_)
  refine pb_Ex.acpB 0 0 cap rfl rfl hb2 pb_new_same rfl rfl (by omega) (by omega) (by omega) hbG (fun i hi => by rw [Nat.zero_add]; exact hg i hi) rfl (by omega) ?_
  refine pb_Ex.run rfl ?_
  refine pb_Ex.aret rfl rfl (by first | exact Or.inl ⟨_, rfl⟩ | exact Or.inr ⟨_, rfl⟩) (by omega) (by omega) (⟨rfl, rfl, hbG, ⟨_, pb_set_same, fun j hj => ?_, fun j hj => by unfold va_cpy; simp [hj]⟩, fun x hx => by rw [pb_set_ne hx, pb_new_ne hx]⟩)
  unfold va_cpy
  by_cases c : 0 ≤ j ∧ j < 0 + cap
  · rw [if_pos c, show 0 + (j - 0) = j by omega]
    exact hg j (by omega)
  · rw [if_neg c]
    show -128 ≤ (0 : Int) ∧ (0 : Int) < 128
    omega
theorem js_newCap (hC : sb_C G h o e cap m s) (mi : Nat) (h1 : cap < mi) (h2 : mi ≤ 150) : pb_Ctr G mJ5_newCapacity 2 0 0 [pb_r o, pb_i mi] h (fun oc h' => oc = .inl (some (pb_i (cap + max (mi - cap) (cap + 2) : Nat))) ∧ h' = h) := by
  obtain ⟨ml, g, k1, k2, k3, k4, k5, k6, k7, k8⟩ := hC
  refine pb_Ctr.of rfl rfl rfl tJ5_newCapacity_ok rfl ?_
  (try refine pb_Ex.run rfl ?_)
  refine pb_Ex.getf rfl rfl k2 rfl ?_
  (try refine pb_Ex.run rfl ?_)
  refine pb_Ex.alen0 (N := cap) (kd := 0) rfl (k3) rfl (by omega) ?_
  (try refine pb_Ex.run rfl ?_)
  refine pb_Ex.getf rfl rfl k2 rfl ?_
  (try refine pb_Ex.run rfl ?_)
  refine pb_Ex.ishl (a := mi) (s := 0) rfl (by omega) (by omega) ?_
  rw [show mi * 2 ^ 0 = mi by omega]
  refine pb_Ex.run rfl ?_
  refine pb_Ex.getf rfl rfl k2 rfl ?_
  (try refine pb_Ex.run rfl ?_)
  refine pb_Ex.ishl (a := 2) (s := 0) rfl (by omega) (by omega) ?_
  (try refine pb_Ex.run rfl ?_)
  have e1 : (mi : Int) - (cap : Int) = ((mi - cap : Nat) : Int) := by omega
  have e2 : (cap : Int) + ((2 * 2 ^ 0 : Nat) : Int) = ((cap + 2 : Nat) : Int) := by omega
  rw [e1, e2]
  refine pb_Ex.pS rfl rfl rfl rfl (jx_newLength cap (mi - cap) (cap + 2) (by omega) (by omega) (by omega) (by omega)) (by omega) (by omega) (by omega) ?_
  (try refine pb_Ex.run rfl ?_)
  refine pb_Ex.ldcI 2147483647 rfl q1432 ?_
  refine pb_Ex.icmpT rfl (by omega) (by omega) (by first | decide | (simp only [pb_cmp]; omega) | simp [pb_cmp]) ?_
  (try refine pb_Ex.run rfl ?_)
  refine pb_Ex.getf rfl rfl k2 rfl ?_
  (try refine pb_Ex.run rfl ?_)
  refine pb_Ex.ishr (a := cap + max (mi - cap) (cap + 2)) (s := 0) rfl (by omega) (by omega) ?_
  rw [show (cap + max (mi - cap) (cap + 2)) / 2 ^ 0 = cap + max (mi - cap) (cap + 2) by omega]
  refine pb_Ex.iret rfl rfl (by omega) (by omega) (⟨rfl, rfl⟩)
theorem js_ens (hC : sb_C G h o e cap m s) (mi : Nat) (h2 : mi ≤ 150) : pb_Ctr G mJ5_ensureCapacityInternal 3 1 400 [pb_r o, pb_i mi] h (fun oc h' => oc = .inl none ∧ sb_Gr G h o e m s mi h') := by
  have hC' := hC
  obtain ⟨ml, g, k1, k2, k3, k4, k5, k6, k7, k8⟩ := hC
  refine pb_Ctr.of rfl rfl rfl tJ5_ensureCapacityInternal_ok rfl ?_
  (try refine pb_Ex.run rfl ?_)
  refine pb_Ex.fin (fun hf => ?_)
  have hol := hf _ _ k2
  refine pb_Ex.getf rfl rfl k2 rfl ?_
  (try refine pb_Ex.run rfl ?_)
  refine pb_Ex.alen0 (N := cap) (kd := 0) rfl (k3) rfl (by omega) ?_
  (try refine pb_Ex.run rfl ?_)
  refine pb_Ex.getf rfl rfl k2 rfl ?_
  (try refine pb_Ex.run rfl ?_)
  refine pb_Ex.ishr (a := cap) (s := 0) rfl (by omega) (by omega) ?_
  rw [show cap / 2 ^ 0 = cap by omega]
  refine pb_Ex.run rfl ?_
  refine pb_Ex.if_le rfl (by omega) (fun c => ?_) (fun c => ?_)
  · (try refine pb_Ex.run rfl ?_)
    refine pb_Ex.vret rfl rfl (by omega) (by omega) (⟨rfl, e, cap, hC', by omega, Or.inl rfl, by omega, fr_P.rf⟩)
  · refine pb_Ex.run rfl ?_
    refine pb_Ex.getf rfl rfl k2 rfl ?_
    (try refine pb_Ex.run rfl ?_)
    refine pb_Ex.cA (M2 := mJ5_newCapacity) rfl q1427 q1429 sl_nc ok_nc rfl rfl k2 (js_newCap hC' mi (by omega) h2) (by omega) (by omega) (by omega) (fun h1 e1 => ?_)
    rw [e1]
    refine pb_Ex.run rfl ?_
    refine pb_Ex.getf rfl rfl k2 rfl ?_
    (try refine pb_Ex.run rfl ?_)
    refine pb_Ex.ishl (a := cap + max (mi - cap) (cap + 2)) (s := 0) rfl (by omega) (by omega) ?_
    rw [show (cap + max (mi - cap) (cap + 2)) * 2 ^ 0 = cap + max (mi - cap) (cap + 2) by omega]
    (try refine pb_Ex.run rfl ?_)
    have hle : cap + max (mi - cap) (cap + 2) ≤ 400 := by omega
    have hlt : cap < cap + max (mi - cap) (cap + 2) := by omega
    have hmi : mi ≤ cap + max (mi - cap) (cap + 2) := by omega
    generalize cap + max (mi - cap) (cap + 2) = N at hle hlt hmi ⊢
    refine pb_Ex.cS rfl rfl rfl rfl (jx_copyOfB (N := N) k3 hlt (by omega) k7) ⟨by omega, by omega, by omega⟩ (fun v h1 hq1 => ?_) (fun E q9 h1 hq1 => by cases hq1.1)
    obtain ⟨e2, e3, e4, ⟨g', e5, e6, e7⟩, e8⟩ := hq1
    cases e2
    (try refine pb_Ex.run rfl ?_)
    have k2' : h1.2 o = some (pb_ob 14 [pb_r e, pb_i 0, pb_i ml, pb_i m]) := by rw [e8 _ (by omega)]; exact k2
    refine pb_Ex.putf rfl rfl (k2') rfl rfl (by first | trivial | exact Or.inl rfl | exact Or.inr rfl | (show _ ∨ _; omega) | (show _ ∧ _; omega)) ?_
    (try refine pb_Ex.run rfl ?_)
    refine pb_Ex.vret rfl rfl (by omega) (by omega) ⟨rfl, h.1, N, ⟨ml, g', k1, pb_set_same, (pb_set_ne (by omega)).trans e5, e4, by omega, hle, e6, fun j hj => ?_⟩, hmi, Or.inr rfl, Nat.le_of_eq e3, by rw [show (pb_set h1 o (pb_ob 14 ([pb_r e, pb_i 0, pb_i ml, pb_i m].set 0 (pb_r h.1)))).1 = h1.1 from rfl, e3]; exact Nat.le_succ _, fun b c j1 j2 => ?_⟩
    · rw [e7 j (by omega)]
      exact k8 j hj
    · have := hf _ _ j1
      rw [pb_set_ne j2, e8 _ (by omega)]
      exact j1
/-- new StringBuilder() -/
theorem js_init0 (hG : co_G G K) (hb : h.2 o = some (pb_ob 14 [pb_0, pb_i 0, pb_i 0, pb_i 0])) : pb_Ctr G mJ5_init 1 1 16 [pb_r o, pb_i 16] h (fun oc h' => oc = .inl none ∧ h'.1 = h.1 + 1 ∧ sb_C G h' o h.1 16 0 s ∧ ∀ b, b ≠ o → b ≠ h.1 → h'.2 b = h.2 b) := by
  refine pb_Ctr.of rfl rfl rfl tJ5_init_ok rfl ?_
  (try refine pb_Ex.run rfl ?_)
  refine pb_Ex.fin (fun hf => ?_)
  have hol := hf _ _ hb
  refine pb_Ex.objI rfl rfl rfl (by omega) ?_
  refine pb_Ex.gets rfl hG.2.1.2.1 q228 ?_
  refine pb_Ex.ifF rfl (by omega) (by first | decide | (simp only [pb_cmp]; omega) | simp [pb_cmp]) ?_
  (try refine pb_Ex.run rfl ?_)
  refine pb_Ex.newB 16 rfl rfl (by omega) (by omega) (by omega) (fun hbG => ?_)
  have hb2 : (pb_new h (pb_aI 4 16 (fun _ => 0))).2 o = some (pb_ob 14 [pb_0, pb_i 0, pb_i 0, pb_i 0]) := by rw [pb_new_ne (by omega)]; exact hb
  refine pb_Ex.putf rfl rfl (hb2) rfl rfl (by first | trivial | exact Or.inl rfl | exact Or.inr rfl | (show _ ∨ _; omega) | (show _ ∧ _; omega)) ?_
  (try refine pb_Ex.run rfl ?_)
  refine pb_Ex.putf rfl rfl pb_set_same rfl rfl (by show _ ∧ _; omega) ?_
  refine pb_Ex.run rfl ?_
  refine pb_Ex.vret rfl rfl (by omega) (by omega) (⟨rfl, rfl, ⟨0, _, Or.inl rfl, pb_set_same, (pb_set_ne (by omega)).trans ((pb_set_ne (by omega)).trans pb_new_same), hbG, by omega, by omega, fun j hj => by show -128 ≤ (0 : Int) ∧ (0 : Int) < 128; omega, fun j hj => absurd hj (Nat.not_lt_zero _)⟩, fun b h1 h2 => by rw [pb_set_ne h1, pb_set_ne h1, pb_new_ne h2]⟩)
theorem js_init (hG : co_G G K) (hb : h.2 o = some (pb_ob 14 [pb_0, pb_i 0, pb_i 0, pb_i 0])) : pb_Ctr G mJ6_init 2 1 16 [pb_r o] h (fun oc h' => oc = .inl none ∧ h'.1 = h.1 + 1 ∧ sb_C G h' o h.1 16 0 s ∧ ∀ b, b ≠ o → b ≠ h.1 → h'.2 b = h.2 b) := by
  refine pb_Ctr.of rfl rfl rfl tJ6_init_ok rfl ?_
  (try refine pb_Ex.run rfl ?_)
  refine pb_Ex.cIo rfl rfl rfl rfl (js_init0 (s := s) hG hb) (by omega) (by omega) (by omega) (fun h1 e1 => ?_)
  (try refine pb_Ex.run rfl ?_)
  refine pb_Ex.vret rfl rfl (by omega) (by omega) (⟨rfl, e1⟩)
end SB
