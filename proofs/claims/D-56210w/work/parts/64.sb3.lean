set_option maxRecDepth 100000
section SB3
variable {G : pb_G} {K : co_K} {h : pb_H} {o e cap m : Nat} {s : Nat → Int}
theorem js_inn {a v n : Nat} {t : Nat → Int} (hG : co_G G K) (hC : sb_C G h o e cap m s) (hS : st_W h a v n t) : pb_Ctr G mJ5_inflateIfNeededFor 1 0 0 [pb_r o, pb_r a] h (fun oc h' => oc = .inl none ∧ h' = h) := by
  obtain ⟨ml, g, k1, k2, k3, k4, k5, k6, k7, k8⟩ := hC
  refine pb_Ctr.of rfl rfl rfl tJ5_inflateIfNeededFor_ok rfl ?_
  (try refine pb_Ex.run rfl ?_)
  refine pb_Ex.gets rfl hG.2.1.2.1 q228 ?_
  refine pb_Ex.ifF rfl (by omega) (by first | decide | (simp only [pb_cmp]; omega) | simp [pb_cmp]) ?_
  (try refine pb_Ex.run rfl ?_)
  refine pb_Ex.getf rfl rfl k2 rfl ?_
  (try refine pb_Ex.run rfl ?_)
  refine pb_Ex.pV rfl rfl rfl rfl (hS.1) rfl rfl (jt_coder hG hS) (by omega) (by omega) (by omega) ?_
  (try refine pb_Ex.run rfl ?_)
  refine pb_Ex.icmpT rfl (by omega) (by omega) (by first | decide | (simp only [pb_cmp]; omega) | simp [pb_cmp]) ?_
  (try refine pb_Ex.run rfl ?_)
  refine pb_Ex.vret rfl rfl (by omega) (by omega) (⟨rfl, rfl⟩)
theorem jt_getBytes {a v n d : Nat} {t g : Nat → Int} (hG : co_G G K) (hS : st_W h a v n t) (he : h.2 e = some (pb_aI 4 cap g)) (heG : pb_b G ≤ e) (hd : d + n ≤ cap) (hcap : cap ≤ 400) : pb_Ctr G mJ7_getBytes 1 0 0 [pb_r a, pb_r e, pb_i d, pb_i 0] h (fun oc h' => oc = .inl none ∧ h'.1 = h.1 ∧ (∃ g', h'.2 e = some (pb_aI 4 cap g') ∧ ∀ j, g' j = if d ≤ j ∧ j < d + n then t (j - d) else g j) ∧ ∀ x, x ≠ e → h'.2 x = h.2 x) := by
  have hS' := hS
  obtain ⟨k1, k2, g0, k3, k4⟩ := hS
  refine pb_Ctr.of rfl rfl rfl tJ7_getBytes_ok rfl ?_
  (try refine pb_Ex.run rfl ?_)
  refine pb_Ex.pV rfl rfl rfl rfl (k1) rfl rfl (jt_coder hG hS') (by omega) (by omega) (by omega) ?_
  (try refine pb_Ex.run rfl ?_)
  refine pb_Ex.icmpF rfl (by omega) (by omega) (by first | decide | (simp only [pb_cmp]; omega) | simp [pb_cmp]) ?_
  (try refine pb_Ex.run rfl ?_)
  refine pb_Ex.getf rfl rfl k1 rfl ?_
  (try refine pb_Ex.run rfl ?_)
  refine pb_Ex.ishl (a := d) (s := 0) rfl (by omega) (by omega) ?_
  rw [show d * 2 ^ 0 = d by omega]
  refine pb_Ex.run rfl ?_
  refine pb_Ex.getf rfl rfl k1 rfl ?_
  (try refine pb_Ex.run rfl ?_)
  refine pb_Ex.alen0 (N := n) (kd := 0) rfl (k3) rfl (by omega) ?_
  (try refine pb_Ex.run rfl ?_)
  refine pb_Ex.acpB 0 d n rfl rfl k3 he rfl rfl rfl (by omega) hd heG (fun i hi => by rw [Nat.zero_add]; have := k4 i hi; omega) rfl (by omega) ?_
  (try refine pb_Ex.run rfl ?_)
  refine pb_Ex.vret rfl rfl (by omega) (by omega) ⟨rfl, rfl, ⟨_, pb_set_same, fun j => ?_⟩, fun x hx => pb_set_ne hx⟩
  unfold va_cpy
  by_cases c : d ≤ j ∧ j < d + n
  · rw [if_pos c, if_pos c, Nat.zero_add]
    exact (k4 (j - d) (by omega)).1
  · rw [if_neg c, if_neg c]
/-- a text behind another -/
def sb_ct (s : Nat → Int) (m : Nat) (t : Nat → Int) (n : Nat) : Nat → Int := fun j => if m ≤ j ∧ j < m + n then t (j - m) else s j
theorem js_put {a v n : Nat} {t : Nat → Int} (hG : co_G G K) (hC : sb_C G h o e cap m s) (hS : st_W h a v n t) (hn : m + n ≤ cap) : pb_Ctr G mJ5_putStringAt 2 0 0 [pb_r o, pb_i m, pb_r a] h (fun oc h' => oc = .inl none ∧ h'.1 = h.1 ∧ (∃ (ml : Int) (g : Nat → Int), (ml = 0 ∨ ml = 1) ∧ h'.2 o = some (pb_ob 14 [pb_r e, pb_i 0, pb_i ml, pb_i m]) ∧ h'.2 e = some (pb_aI 4 cap g) ∧ (∀ j, j < cap → -128 ≤ g j ∧ g j < 128) ∧ ∀ j, j < m + n → g j = sb_ct s m t n j ∧ 0 ≤ sb_ct s m t n j ∧ sb_ct s m t n j < 128) ∧ ∀ x, x ≠ e → h'.2 x = h.2 x) := by
  have hC' := hC
  obtain ⟨ml, g, k1, k2, k3, k4, k5, k6, k7, k8⟩ := hC
  have hoe : o ≠ e := fun q => by rw [← q, k2] at k3; cases k3
  refine pb_Ctr.of rfl rfl rfl tJ5_putStringAt_ok rfl ?_
  (try refine pb_Ex.run rfl ?_)
  refine pb_Ex.cA (M2 := mJ5_inflateIfNeededFor) rfl q1559 q1561 sl_inn ok_inn rfl rfl k2 (js_inn hG hC' hS) (by omega) (by omega) (by omega) (fun h2 e2 => ?_)
  rw [e2]
  (try refine pb_Ex.run rfl ?_)
  refine pb_Ex.getf rfl rfl k2 rfl ?_
  (try refine pb_Ex.run rfl ?_)
  refine pb_Ex.getf rfl rfl k2 rfl ?_
  (try refine pb_Ex.run rfl ?_)
  refine pb_Ex.cV rfl rfl rfl rfl hS.1 rfl rfl (jt_getBytes (d := m) hG hS k3 k4 hn k6) ⟨by omega, by omega, by omega⟩ (fun v h1 hq1 => ?_) (fun E q9 h1 hq1 => by cases hq1.1)
  obtain ⟨e1, e3, ⟨g', e4, e5⟩, e6⟩ := hq1
  cases e1
  (try refine pb_Ex.run rfl ?_)
  obtain ⟨j1, j2, g0, j3, j4⟩ := hS
  refine pb_Ex.vret rfl rfl (by omega) (by omega) ⟨rfl, e3, ⟨ml, g', k1, by rw [e6 _ hoe]; exact k2, e4, fun j hj => ?_, fun j hj => ?_⟩, e6⟩
  · rw [e5 j]
    split
    · next c => have := j4 (j - m) (by omega); omega
    · exact k7 j hj
  · rw [e5 j]
    unfold sb_ct
    by_cases c : m ≤ j ∧ j < m + n
    · rw [if_pos c, if_pos c]
      have := j4 (j - m) (by omega)
      exact ⟨rfl, this.2⟩
    · rw [if_neg c, if_neg c]
      exact k8 j (by omega)
theorem js_appS {a v n : Nat} {t : Nat → Int} (hG : co_G G K) (hC : sb_C G h o e cap m s) (hS : st_W h a v n t) (hm : m + n ≤ 150) : pb_Ctr G mJ5_append_3 4 1 400 [pb_r o, pb_r a] h (fun oc h' => oc = .inl (some (pb_r o)) ∧ sb_St G h o e (m + n) (sb_ct s m t n) h') := by
  have hC' := hC
  obtain ⟨ml, g, k1, k2, k3, k4, k5, k6, k7, k8⟩ := hC
  refine pb_Ctr.of rfl rfl rfl tJ5_append_3_ok rfl ?_
  (try refine pb_Ex.run rfl ?_)
  refine pb_Ex.fin (fun hf => ?_)
  have hol := hf _ _ k2
  have hel := hf _ _ k3
  refine pb_Ex.ifnonnull rfl (fun a9 e9 => ?_) (fun e => by cases e)
  cases e9
  refine pb_Ex.run rfl ?_
  refine pb_Ex.pV rfl rfl rfl rfl (hS.1) rfl rfl (jt_length hG hS) (by omega) (by omega) (by omega) ?_
  (try refine pb_Ex.run rfl ?_)
  refine pb_Ex.getf rfl rfl k2 rfl ?_
  (try refine pb_Ex.run rfl ?_)
  have e0 : (m : Int) + (n : Int) = ((m + n : Nat) : Int) := by omega
  rw [e0]
  refine pb_Ex.cA (M2 := mJ5_ensureCapacityInternal) rfl q1423 q1425 sl_ens ok_ens rfl rfl k2 (js_ens hC' (m + n) (by omega)) (by omega) (by omega) (by omega) (fun h1 e1 => ?_)
  obtain ⟨e', cap', hC1, c1, c2, c3, c4⟩ := e1
  have hC1' := hC1
  obtain ⟨ml1, g1, l1, l2, l3, l4, l5, l6, l7, l8⟩ := hC1
  have hoe1 : o ≠ e' := fun q => by rw [← q, l2] at l3; cases l3
  have hS1 : st_W h1 a v n t := hS.fr c4 (fun c hc => fun q => by rw [q, k2] at hc; cases hc; have := hS.1; rw [q, k2] at this; cases this) (fun c hc => fun q => by obtain ⟨-, -, g0, j3, -⟩ := hS; rw [q, k2] at j3; cases j3)
  (try refine pb_Ex.run rfl ?_)
  refine pb_Ex.getf rfl rfl l2 rfl ?_
  (try refine pb_Ex.run rfl ?_)
  refine pb_Ex.cA (M2 := mJ5_putStringAt) rfl q1555 q1557 sl_put ok_put rfl rfl l2 (js_put hG hC1' hS1 (by omega)) (by omega) (by omega) (by omega) (fun h2 e2 => ?_)
  obtain ⟨d1, ⟨ml2, g2, d2, d3, d4, d5, d6⟩, d7⟩ := e2
  (try refine pb_Ex.run rfl ?_)
  refine pb_Ex.getf rfl rfl d3 rfl ?_
  (try refine pb_Ex.run rfl ?_)
  refine pb_Ex.putf rfl rfl (d3) rfl rfl (by first | trivial | exact Or.inl rfl | exact Or.inr rfl | (show _ ∨ _; omega) | (show _ ∧ _; omega)) ?_
  (try refine pb_Ex.run rfl ?_)
  refine pb_Ex.aret rfl rfl (by first | exact Or.inl ⟨_, rfl⟩ | exact Or.inr ⟨_, rfl⟩) (by omega) (by omega) ⟨rfl, e', ⟨cap', ml2, g2, d2, ?_, (pb_set_ne (Ne.symm hoe1)).trans d4, l4, c1, l6, d5, d6⟩, c2, ?_, ?_, fun b c b1 b2 => ?_⟩
  · rw [pb_set_same]
    show some (pb_ob 14 [pb_r e', pb_i 0, pb_i ml2, pb_i ((m : Int) + n)]) = _
    rw [e0]
  · show h2.1 ≤ _
    omega
  · show h.1 ≤ h2.1
    have := c4.1
    omega
  · have b3 : b ≠ e' := fun q => by
      rcases c2 with c2 | c2
      · exact b2.2 (q.trans c2)
      · have := hf _ _ b1
        omega
    rw [pb_set_ne b2.1, d7 _ b3]
    exact c4.2 _ _ b1 b2.1
theorem js_len (hC : sb_C G h o e cap m s) : pb_Ctr G mJ5_length 0 0 0 [pb_r o] h (fun oc h' => oc = .inl (some (pb_i m)) ∧ h' = h) := by
  obtain ⟨ml, g, k1, k2, k3, k4, k5, k6, k7, k8⟩ := hC
  refine pb_Ctr.of rfl rfl rfl tJ5_length_ok rfl ?_
  (try refine pb_Ex.run rfl ?_)
  refine pb_Ex.getf rfl rfl k2 rfl ?_
  (try refine pb_Ex.run rfl ?_)
  refine pb_Ex.iret rfl rfl (by omega) (by omega) (⟨rfl, rfl⟩)
theorem js_setLen (hC : sb_C G h o e cap m s) : pb_Ctr G mJ5_setLength 4 1 400 [pb_r o, pb_i 0] h (fun oc h' => oc = .inl none ∧ sb_St G h o e 0 s h') := by
  have hC' := hC
  obtain ⟨ml, g, k1, k2, k3, k4, k5, k6, k7, k8⟩ := hC
  refine pb_Ctr.of rfl rfl rfl tJ5_setLength_ok rfl ?_
  (try refine pb_Ex.run rfl ?_)
  refine pb_Ex.fin (fun hf => ?_)
  have hol := hf _ _ k2
  have hel := hf _ _ k3
  refine pb_Ex.ifT rfl (by omega) (by first | decide | (simp only [pb_cmp]; omega) | simp [pb_cmp]) ?_
  (try refine pb_Ex.run rfl ?_)
  refine pb_Ex.cA (M2 := mJ5_ensureCapacityInternal) rfl q1423 q1425 sl_ens ok_ens rfl rfl k2 (js_ens hC' 0 (by omega)) (by omega) (by omega) (by omega) (fun h1 e1 => ?_)
  obtain ⟨e', cap', hC1, c1, c2, c3, c4⟩ := e1
  obtain ⟨ml1, g1, l1, l2, l3, l4, l5, l6, l7, l8⟩ := hC1
  have hoe1 : o ≠ e' := fun q => by rw [← q, l2] at l3; cases l3
  have fin : ∀ (h2 : pb_H) (ml2 : Int), (ml2 = 0 ∨ ml2 = 1) → h2.1 = h1.1 → h2.2 o = some (pb_ob 14 [pb_r e', pb_i 0, pb_i ml2, pb_i m]) → (∀ b, b ≠ o → h2.2 b = h1.2 b) → pb_Ex G mJ5_setLength 4 1 400 (fun oc h' => oc = .inl none ∧ sb_St G h o e 0 s h') (0 + 1) (0 + 400) 76 [some (pb_r o), some (pb_i 0)] [] h2 := by
    intro h2 ml2 q1 q2 q3 q4
    refine pb_Ex.run rfl ?_
    refine pb_Ex.putf rfl rfl (q3) rfl rfl (by first | trivial | exact Or.inl rfl | exact Or.inr rfl | (show _ ∨ _; omega) | (show _ ∧ _; omega)) ?_
    (try refine pb_Ex.run rfl ?_)
    refine pb_Ex.vret rfl rfl (by omega) (by omega) ⟨rfl, e', ⟨cap', ml2, g1, q1, pb_set_same, (pb_set_ne (Ne.symm hoe1)).trans ((q4 _ (Ne.symm hoe1)).trans l3), l4, by omega, l6, l7, fun j hj => absurd hj (Nat.not_lt_zero _)⟩, c2, ?_, ?_, fun b c b1 b2 => ?_⟩
    · show h2.1 ≤ _
      omega
    · show h.1 ≤ h2.1
      have := c4.1
      omega
    · rw [pb_set_ne b2.1, q4 _ b2.1]
      exact c4.2 _ _ b1 b2.1
  (try refine pb_Ex.run rfl ?_)
  refine pb_Ex.getf rfl rfl l2 rfl ?_
  (try refine pb_Ex.run rfl ?_)
  refine pb_Ex.icmpT rfl (by omega) (by omega) (by first | decide | (simp only [pb_cmp]; omega) | simp [pb_cmp]) ?_
  (try refine pb_Ex.run rfl ?_)
  refine pb_Ex.getf rfl rfl l2 rfl ?_
  (try refine pb_Ex.run rfl ?_)
  refine pb_Ex.icmp_le rfl (by omega) (by omega) (fun c => ?_) (fun c => ?_)
  · exact fin h1 ml1 l1 rfl l2 (fun _ _ => rfl)
  · refine pb_Ex.run rfl ?_
    refine pb_Ex.putf rfl rfl l2 rfl rfl (Or.inr rfl) ?_
    exact fin _ 1 (Or.inr rfl) rfl pb_set_same (fun b hb => pb_set_ne hb)
theorem js_gv (hC : sb_C G h o e cap m s) : pb_Ctr G mJ5_getValue 0 0 0 [pb_r o] h (fun oc h' => oc = .inl (some (pb_r e)) ∧ h' = h) := by
  obtain ⟨ml, g, k1, k2, k3, k4, k5, k6, k7, k8⟩ := hC
  refine pb_Ctr.of rfl rfl rfl tJ5_getValue_ok rfl ?_
  (try refine pb_Ex.run rfl ?_)
  refine pb_Ex.getf rfl rfl k2 rfl ?_
  (try refine pb_Ex.run rfl ?_)
  refine pb_Ex.aret rfl rfl (by first | exact Or.inl ⟨_, rfl⟩ | exact Or.inr ⟨_, rfl⟩) (by omega) (by omega) (⟨rfl, rfl⟩)
/-! java.lang.StringBuilder's own -/
theorem jb_appI (hG : co_G G K) (hK : co_W K h) (hW : sb_W G h o e m s) (z : Nat) (hz : z ≤ 99) (hm : m + 2 ≤ 150) : pb_Ctr G mJ6_append 5 1 400 [pb_r o, pb_i z] h (fun oc h' => oc = .inl (some (pb_r o)) ∧ sb_St G h o e (m + dg_n z) (dg_s s m z) h') := by
  obtain ⟨cap, hC⟩ := hW
  have hC' := hC
  obtain ⟨ml, g, k1, k2, k3, k4, k5, k6, k7, k8⟩ := hC
  refine pb_Ctr.of rfl rfl rfl tJ6_append_ok rfl ?_
  (try refine pb_Ex.run rfl ?_)
  refine pb_Ex.cAS (M2 := mJ5_append) rfl rfl rfl q1417 q2402 q1418 (by decide) ok_aI rfl rfl k2 (js_appI hG hK hC' z hz hm) (by omega) (by omega) (by omega) (fun h1 e1 => ?_)
  (try refine pb_Ex.run rfl ?_)
  refine pb_Ex.aret rfl rfl (by first | exact Or.inl ⟨_, rfl⟩ | exact Or.inr ⟨_, rfl⟩) (by omega) (by omega) (⟨rfl, e1⟩)
theorem jb_appC (hG : co_G G K) (hW : sb_W G h o e m s) (z : Int) (hz : 0 ≤ z ∧ z < 128) (hm : m + 1 ≤ 150) : pb_Ctr G mJ6_append_2 5 1 400 [pb_r o, pb_i z] h (fun oc h' => oc = .inl (some (pb_r o)) ∧ sb_St G h o e (m + 1) (va_up s m z) h') := by
  obtain ⟨cap, hC⟩ := hW
  have hC' := hC
  obtain ⟨ml, g, k1, k2, k3, k4, k5, k6, k7, k8⟩ := hC
  refine pb_Ctr.of rfl rfl rfl tJ6_append_2_ok rfl ?_
  (try refine pb_Ex.run rfl ?_)
  refine pb_Ex.cAS (M2 := mJ5_append_2) rfl rfl rfl q1490 q2405 q1491 (by decide) ok_aC rfl rfl k2 (js_appC hG hC' z hz hm) (by omega) (by omega) (by omega) (fun h1 e1 => ?_)
  (try refine pb_Ex.run rfl ?_)
  refine pb_Ex.aret rfl rfl (by first | exact Or.inl ⟨_, rfl⟩ | exact Or.inr ⟨_, rfl⟩) (by omega) (by omega) (⟨rfl, e1⟩)
theorem jb_appS {a v n : Nat} {t : Nat → Int} (hG : co_G G K) (hW : sb_W G h o e m s) (hS : st_W h a v n t) (hm : m + n ≤ 150) : pb_Ctr G mJ6_append_3 5 1 400 [pb_r o, pb_r a] h (fun oc h' => oc = .inl (some (pb_r o)) ∧ sb_St G h o e (m + n) (sb_ct s m t n) h') := by
  obtain ⟨cap, hC⟩ := hW
  have hC' := hC
  obtain ⟨ml, g, k1, k2, k3, k4, k5, k6, k7, k8⟩ := hC
  refine pb_Ctr.of rfl rfl rfl tJ6_append_3_ok rfl ?_
  (try refine pb_Ex.run rfl ?_)
  refine pb_Ex.cAS (M2 := mJ5_append_3) rfl rfl rfl q1537 q2407 q1538 (by decide) ok_aS rfl rfl k2 (js_appS hG hC' hS hm) (by omega) (by omega) (by omega) (fun h1 e1 => ?_)
  (try refine pb_Ex.run rfl ?_)
  refine pb_Ex.aret rfl rfl (by first | exact Or.inl ⟨_, rfl⟩ | exact Or.inr ⟨_, rfl⟩) (by omega) (by omega) (⟨rfl, e1⟩)
theorem jb_len (hW : sb_W G h o e m s) : pb_Ctr G mJ6_length 1 0 0 [pb_r o] h (pb_P (some (pb_i m)) h) := by
  obtain ⟨cap, hC⟩ := hW
  have hC' := hC
  obtain ⟨ml, g, k1, k2, k3, k4, k5, k6, k7, k8⟩ := hC
  refine pb_Ctr.of rfl rfl rfl tJ6_length_ok rfl ?_
  (try refine pb_Ex.run rfl ?_)
  refine pb_Ex.cAS (M2 := mJ5_length) rfl rfl rfl q1593 q1589 q1588 (by decide) ok_len rfl rfl k2 (js_len hC') (by omega) (by omega) (by omega) (fun h1 e1 => ?_)
  rw [e1]
  refine pb_Ex.iret rfl rfl (by omega) (by omega) (⟨rfl, rfl⟩)
theorem jb_setLen (hW : sb_W G h o e m s) : pb_Ctr G mJ6_setLength 5 1 400 [pb_r o, pb_i 0] h (fun oc h' => oc = .inl none ∧ sb_St G h o e 0 s h') := by
  obtain ⟨cap, hC⟩ := hW
  have hC' := hC
  obtain ⟨ml, g, k1, k2, k3, k4, k5, k6, k7, k8⟩ := hC
  refine pb_Ctr.of rfl rfl rfl tJ6_setLength_ok rfl ?_
  (try refine pb_Ex.run rfl ?_)
  refine pb_Ex.cAS (M2 := mJ5_setLength) rfl rfl rfl q1683 q2412 q1684 (by decide) ok_sl rfl rfl k2 (js_setLen hC') (by omega) (by omega) (by omega) (fun h1 e1 => ?_)
  (try refine pb_Ex.run rfl ?_)
  refine pb_Ex.vret rfl rfl (by omega) (by omega) (⟨rfl, e1⟩)
/-! texts -/
theorem jx_range {b : Nat} {g : Nat → Int} (hb : h.2 b = some (pb_aI 4 cap g)) (hm : m ≤ cap) (hcap : cap ≤ 400) (hg : ∀ j, j < cap → -128 ≤ g j ∧ g j < 128) : pb_Ctr G mJ13_copyOfRangeByte 1 1 400 [pb_r b, pb_i 0, pb_i m] h (fun oc h' => oc = .inl (some (pb_r h.1)) ∧ pb_b G ≤ h.1 ∧ h'.1 = h.1 + 1 ∧ (∃ g', h'.2 h.1 = some (pb_aI 4 m g') ∧ ∀ j, j < m → g' j = g j) ∧ ∀ x, x ≠ h.1 → h'.2 x = h.2 x) := by
  refine pb_Ctr.of rfl rfl rfl tJ13_copyOfRangeByte_ok rfl ?_
  (try refine pb_Ex.run rfl ?_)
  refine pb_Ex.fin (fun hf => ?_)
  have hbl := hf b _ hb
  refine pb_Ex.pS rfl rfl rfl rfl (v := none) (n2 := 0) ?_ (by omega) (by omega) (by omega) ?_
  · refine pb_Ctr.of rfl rfl rfl tJ13_checkLength_ok rfl ?_
    (try refine pb_Ex.run rfl ?_)
    refine pb_Ex.icmpT rfl (by omega) (by omega) (by first | decide | (simp only [pb_cmp]; omega) | simp [pb_cmp]) ?_
    (try refine pb_Ex.run rfl ?_)
    refine pb_Ex.vret rfl rfl (by omega) (by omega) (⟨rfl, rfl⟩)
  refine pb_Ex.run rfl ?_
  refine pb_Ex.newB m rfl (by omega) (by omega) (by omega) (by omega) (fun hbG => ?_)
  refine pb_Ex.run rfl ?_
  have hb2 : (pb_new h (pb_aI 4 m (fun _ => 0))).2 b = some (pb_aI 4 cap g) := by rw [pb_new_ne (by omega)]; exact hb
  refine pb_Ex.alen0 (N := cap) (kd := 0) rfl (hb2) rfl (by omega) ?_
  (try refine pb_Ex.run rfl ?_)
  refine pb_Ex.mmin rfl rfl (by omega) (by omega) rfl (by omega) (by omega) (by omega) ?_
  (try refine pb_Ex.run rfl ?_)
  refine pb_Ex.acpB 0 0 m rfl rfl hb2 pb_new_same rfl rfl (by omega) (by omega) (by omega) hbG (fun i hi => by rw [Nat.zero_add]; exact hg i (by omega)) rfl (by omega) ?_
  refine pb_Ex.run rfl ?_
  refine pb_Ex.more (k2 := 1) (u2 := 400) (by omega) (by omega) ?_
  refine pb_Ex.aret rfl rfl (by first | exact Or.inl ⟨_, rfl⟩ | exact Or.inr ⟨_, rfl⟩) (by omega) (by omega) (⟨rfl, hbG, rfl, ⟨_, pb_set_same, fun j hj => by unfold va_cpy; simp [hj]⟩, fun x hx => by rw [pb_set_ne hx, pb_new_ne hx]⟩)
theorem jx_range2 {b : Nat} {g : Nat → Int} (hb : h.2 b = some (pb_aI 4 cap g)) (hm : m ≤ cap) (hcap : cap ≤ 400) (hg : ∀ j, j < cap → -128 ≤ g j ∧ g j < 128) : pb_Ctr G mJ13_copyOfRange 2 1 400 [pb_r b, pb_i 0, pb_i m] h (fun oc h' => oc = .inl (some (pb_r h.1)) ∧ pb_b G ≤ h.1 ∧ h'.1 = h.1 + 1 ∧ (∃ g', h'.2 h.1 = some (pb_aI 4 m g') ∧ ∀ j, j < m → g' j = g j) ∧ ∀ x, x ≠ h.1 → h'.2 x = h.2 x) := by
  refine pb_Ctr.of rfl rfl rfl tJ13_copyOfRange_ok rfl ?_
  (try refine pb_Ex.run rfl ?_)
  refine pb_Ex.ifF rfl (by omega) (by first | decide | (simp only [pb_cmp]; omega) | simp [pb_cmp]) ?_
  (try refine pb_Ex.run rfl ?_)
  refine pb_Ex.alen0 (N := cap) (kd := 0) rfl (hb) rfl (by omega) ?_
  (try refine pb_Ex.run rfl ?_)
  refine pb_Ex.icmp_eq rfl (by omega) (by omega) (fun c => ?_) (fun c => ?_)
  · refine pb_Ex.run rfl ?_
    have ecm : m = cap := by omega
    refine pb_Ex.cloneB rfl rfl hb hg rfl (by omega) (by omega) (by omega) (fun hbG => ?_)
    refine pb_Ex.castB rfl rfl pb_new_same ?_
    refine pb_Ex.more (k2 := 1) (u2 := 400) (by omega) (by omega) ?_
    subst ecm
    refine pb_Ex.aret rfl rfl (by first | exact Or.inl ⟨_, rfl⟩ | exact Or.inr ⟨_, rfl⟩) (by omega) (by omega) (⟨rfl, hbG, rfl, ⟨g, pb_new_same, fun _ _ => rfl⟩, fun x hx => pb_new_ne hx⟩)
  · refine pb_Ex.run rfl ?_
    refine pb_Ex.cS rfl rfl rfl rfl (jx_range hb hm hcap hg) ⟨by omega, by omega, by omega⟩ (fun v h1 hq1 => ?_) (fun E q9 h1 hq1 => by cases hq1.1)
    obtain ⟨e1, e2⟩ := hq1
    cases e1
    refine pb_Ex.aret rfl rfl (by first | exact Or.inl ⟨_, rfl⟩ | exact Or.inr ⟨_, rfl⟩) (by omega) (by omega) (⟨rfl, e2⟩)
theorem jt_init2 {a : Nat} (hG : co_G G K) (hW : sb_W G h o e m s) (ha : h.2 a = some (pb_ob 15 [pb_0, pb_i 0])) (haG : pb_b G ≤ a) : pb_Ctr G mJ7_init_2 3 1 400 [pb_r a, pb_r o, pb_0] h (fun oc h' => oc = .inl none ∧ h'.1 = h.1 + 1 ∧ st_W h' a h.1 m s ∧ ∀ x, x ≠ a → x ≠ h.1 → h'.2 x = h.2 x) := by
  obtain ⟨cap, hC⟩ := hW
  have hC' := hC
  obtain ⟨ml, g, k1, k2, k3, k4, k5, k6, k7, k8⟩ := hC
  have hao : o ≠ a := fun q => by rw [q, ha] at k2; cases k2
  have hae : e ≠ a := fun q => by rw [q, ha] at k3; cases k3
  refine pb_Ctr.of rfl rfl rfl tJ7_init_2_ok rfl ?_
  (try refine pb_Ex.run rfl ?_)
  refine pb_Ex.fin (fun hf => ?_)
  have hal := hf _ _ ha
  refine pb_Ex.objI rfl rfl rfl (by omega) ?_
  refine pb_Ex.run rfl ?_
  refine pb_Ex.cA (M2 := mJ5_getValue) rfl q1582 q1583 (Or.inl q1585) ok_gv rfl rfl k2 (js_gv hC') (by omega) (by omega) (by omega) (fun h1 e1 => ?_)
  rw [e1]
  (try refine pb_Ex.run rfl ?_)
  refine pb_Ex.callU (np := 0) (M2 := mJ6_length) "java/lang/StringBuilder" "java/lang/AbstractStringBuilder" ⟨"java/lang/AbstractStringBuilder", "length", "()I"⟩ rfl q1587 q1589 (Or.inr ⟨_, _, _, q1594, q1588⟩) mJ6_length_ok.1 (Or.inl q1590) ⟨by decide +kernel, by decide +kernel⟩ (by decide +kernel) mJ6_length_ok.2.2 rfl rfl (pb_rc.of k2 (fun r hr => by cases hr; rfl)) (jb_len ⟨cap, hC'⟩) ⟨by omega, by omega, by omega⟩ (fun v h2 hq2 => ?_) (fun E q9 h1 hq1 => by cases hq1.1)
  obtain ⟨d1, d2⟩ := hq2
  cases d1
  rw [d2]
  (try refine pb_Ex.run rfl ?_)
  refine pb_Ex.cA (M2 := mJ5_isLatin1) rfl q1595 q1444 (Or.inl q1446) ok_lat rfl rfl k2 (js_lat hG hC') (by omega) (by omega) (by omega) (fun h3 e3 => ?_)
  rw [e3]
  refine pb_Ex.ifF rfl (by omega) (by first | decide | (simp only [pb_cmp]; omega) | simp [pb_cmp]) ?_
  (try refine pb_Ex.run rfl ?_)
  refine pb_Ex.putfF rfl rfl ha (Or.inr haG) (fun r hr => by cases hr; rfl) rfl (by show _ ∧ _; omega) ?_
  refine pb_Ex.run rfl ?_
  have k3' : (pb_set h a (pb_ob 15 ([pb_0, pb_i 0].set 1 (pb_i 0)))).2 e = some (pb_aI 4 cap g) := (pb_set_ne hae).trans k3
  refine pb_Ex.cS rfl rfl rfl rfl (jx_range2 (m := m) k3' k5 k6 k7) ⟨by omega, by omega, by omega⟩ (fun v h4 hq4 => ?_) (fun E q9 h1 hq1 => by cases hq1.1)
  obtain ⟨c1, c2, c3, ⟨g', c4, c5⟩, c6⟩ := hq4
  cases c1
  have hz : (pb_set h a (pb_ob 15 ([pb_0, pb_i 0].set 1 (pb_i 0)))).1 = h.1 := rfl
  rw [hz] at c2 c3 c4 c6
  have ha4 : h4.2 a = some (pb_ob 15 [pb_0, pb_i 0]) := by rw [c6 _ (by omega)]; exact pb_set_same
  refine pb_Ex.putfF rfl rfl ha4 (Or.inr haG) (fun r hr => by cases hr; rfl) rfl trivial ?_
  refine pb_Ex.run rfl ?_
  refine pb_Ex.vret rfl rfl (by omega) (by omega) (⟨rfl, c3, ⟨pb_set_same, by omega, g', (pb_set_ne (by omega)).trans c4, fun j hj => by rw [c5 j hj]; exact k8 j hj⟩, fun x hx hx2 => by rw [pb_set_ne hx, c6 _ hx2, pb_set_ne hx]⟩)
theorem jt_init {a : Nat} (hG : co_G G K) (hW : sb_W G h o e m s) (ha : h.2 a = some (pb_ob 15 [pb_0, pb_i 0])) (haG : pb_b G ≤ a) : pb_Ctr G mJ7_init 4 1 400 [pb_r a, pb_r o] h (fun oc h' => oc = .inl none ∧ h'.1 = h.1 + 1 ∧ st_W h' a h.1 m s ∧ ∀ x, x ≠ a → x ≠ h.1 → h'.2 x = h.2 x) := by
  refine pb_Ctr.of rfl rfl rfl tJ7_init_ok rfl ?_
  (try refine pb_Ex.run rfl ?_)
  refine pb_Ex.cIo rfl rfl rfl rfl (jt_init2 hG hW ha haG) (by omega) (by omega) (by omega) (fun h1 e1 => ?_)
  (try refine pb_Ex.run rfl ?_)
  refine pb_Ex.vret rfl rfl (by omega) (by omega) (⟨rfl, e1⟩)
/-- the builder's text, in a new String -/
theorem jb_toString (hG : co_G G K) (hW : sb_W G h o e m s) : pb_Ctr G mJ6_toString 5 2 404 [pb_r o] h (fun oc h' => oc = .inl (some (pb_r h.1)) ∧ h'.1 = h.1 + 2 ∧ st_W h' h.1 (h.1 + 1) m s ∧ fr_x h h') := by
  refine pb_Ctr.of rfl rfl rfl tJ6_toString_ok rfl ?_
  (try refine pb_Ex.run rfl ?_)
  refine pb_Ex.fin (fun hf => ?_)
  refine pb_Ex.base (fun hbG => ?_)
  refine pb_Ex.new 15 4 RJ7 TJ7 [pb_0, pb_i 0] rfl rfl rfl rfl (fun j hj => by
    have hj : j < 2 := hj
    match j, hj with
    | 0, _ => rfl
    | 1, _ => rfl) (by omega) (by omega) ?_
  refine pb_Ex.run rfl ?_
  have hx : fr_x h (pb_new h (pb_ob 15 [pb_0, pb_i 0])) := fr_x.nw fr_x.rf hf _
  have hW1 : sb_W G (pb_new h (pb_ob 15 [pb_0, pb_i 0])) o e m s := hW.fr hx (fun _ _ => trivial) (fun _ _ => trivial)
  refine pb_Ex.cIo rfl rfl rfl rfl (jt_init hG hW1 pb_new_same hbG) (by omega) (by omega) (by omega) (fun h1 e1 => ?_)
  (try refine pb_Ex.run rfl ?_)
  obtain ⟨e2, e3, e4⟩ := e1
  refine pb_Ex.aret rfl rfl (by first | exact Or.inl ⟨_, rfl⟩ | exact Or.inr ⟨_, rfl⟩) (by omega) (by omega) (⟨rfl, e2, e3, ⟨by show h.1 ≤ h1.1; rw [e2]; show h.1 ≤ h.1 + 1 + 1; omega, fun b c hb _ => by have := hf _ _ hb; rw [e4 _ (by omega) (by show b ≠ h.1 + 1; omega), pb_new_ne (by omega)]; exact hb⟩⟩)
end SB3
