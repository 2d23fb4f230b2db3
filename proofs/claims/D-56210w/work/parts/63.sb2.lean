set_option maxRecDepth 100000
theorem co_W.lo {G : pb_G} {K : co_K} {h h' : pb_H} {P : Nat → pb_C → Prop} (hG : co_G G K) (hK : co_W K h) (hx : fr_P P h h') (hP : ∀ b c, b < pb_b G → h.2 b = some c → P b c) : co_W K h' := by
  obtain ⟨⟨g0, k0⟩, ⟨g1, k1, k2⟩, ⟨g2, k3, k4⟩, k5⟩ := hK
  obtain ⟨⟨a1, a2, a3, a4⟩, -⟩ := hG
  refine ⟨⟨g0, hx.2 _ _ k0 (hP _ _ a1 k0)⟩, ⟨g1, hx.2 _ _ k1 (hP _ _ a2 k1), k2⟩, ⟨g2, hx.2 _ _ k3 (hP _ _ a3 k3), k4⟩, fun i x hi => ?_⟩
  obtain ⟨k6, g3, k7, k8⟩ := k5 i x hi
  have hl : i < 18 := (List.getElem?_eq_some_iff.mp hi).1
  exact ⟨hx.2 _ _ k6 (hP _ _ (a4 i hl).1 k6), g3, hx.2 _ _ k7 (hP _ _ (a4 i hl).2 k7), k8⟩
theorem co_W.x {G : pb_G} {K : co_K} {h h' : pb_H} (hG : co_G G K) (hK : co_W K h) (hx : fr_x h h') : co_W K h' := hK.lo hG hx (fun _ _ _ _ => trivial)
section ROWS63
variable {G : pb_G} {M M2 : pb_M} {n C S n2 C2 S2 : Nat} {Q Q2 : pb_O → pb_H → Prop} {k u pc : Nat} {L : List (Option pb_V)} {st a rest : List pb_V} {h : pb_H}
theorem pb_Ex.own {b : Nat} {x : pb_C} (hb : h.2 b = some x) (hw : pb_wr x = true) (kk : pb_b G ≤ b → pb_Ex G M n C S Q k u pc L st h) : pb_Ex G M n C S Q k u pc L st h := by
  intro p e R s m args below meth c X H locs ls hR hO hL hl hn
  exact kk ((hR.2.2 b x hb).2 hw) p e R s m args below meth c X H locs ls hR hO hL hl hn
end ROWS63
/-- a number's digits -/
def dg_n (z : Nat) : Nat := if z < 10 then 1 else 2
def dg_s (s : Nat → Int) (m z : Nat) : Nat → Int := if z < 10 then va_up s m (48 + z) else va_up (va_up s m (48 + (z / 10 : Nat))) (m + 1) (48 + (z % 10 : Nat))
section SB2
variable {G : pb_G} {K : co_K} {h : pb_H} {o e cap m : Nat} {s : Nat → Int}
theorem ji_size (z : Nat) (hz : z ≤ 99) : pb_Ctr G mJ25_stringSize 0 0 0 [pb_i z] h (pb_P (some (pb_i (dg_n z))) h) := by
  unfold dg_n
  refine pb_Ctr.of rfl rfl rfl tJ25_stringSize_ok rfl ?_
  (try refine pb_Ex.run rfl ?_)
  refine pb_Ex.ifF rfl (by omega) (by first | decide | (simp only [pb_cmp]; omega) | simp [pb_cmp]) ?_
  (try refine pb_Ex.run rfl ?_)
  refine pb_Ex.run rfl ?_
  refine pb_Ex.icmpF rfl (by omega) (by omega) (by first | decide | (simp only [pb_cmp]; omega) | simp [pb_cmp]) ?_
  (try refine pb_Ex.run rfl ?_)
  by_cases c : z < 10
  · rw [if_pos c]
    refine pb_Ex.icmpF rfl (by omega) (by omega) (by first | decide | (simp only [pb_cmp]; omega) | simp [pb_cmp]) ?_
    (try refine pb_Ex.run rfl ?_)
    refine pb_Ex.iret rfl rfl (by omega) (by omega) (⟨rfl, rfl⟩)
  · rw [if_neg c]
    refine pb_Ex.icmpT rfl (by omega) (by omega) (by first | decide | (simp only [pb_cmp]; omega) | simp [pb_cmp]) ?_
    (try refine pb_Ex.run rfl ?_)
    refine pb_Ex.run rfl ?_
    refine pb_Ex.icmpF rfl (by omega) (by omega) (by first | decide | (simp only [pb_cmp]; omega) | simp [pb_cmp]) ?_
    (try refine pb_Ex.run rfl ?_)
    refine pb_Ex.icmpF rfl (by omega) (by omega) (by first | decide | (simp only [pb_cmp]; omega) | simp [pb_cmp]) ?_
    (try refine pb_Ex.run rfl ?_)
    refine pb_Ex.iret rfl rfl (by omega) (by omega) (⟨rfl, rfl⟩)
/-- what the digits do to an array of bytes -/
def dg_g (g : Nat → Int) (i z : Nat) : Nat → Int := if z < 10 then va_up g (i - 1) (48 + z) else va_up (va_up g (i - 1) (48 + (z % 10 : Nat))) (i - 2) (48 + (z / 10 : Nat))
theorem ji_chars {b : Nat} {g : Nat → Int} (hG : co_G G K) (hK : co_W K h) (z : Nat) (hz : z ≤ 99) (i : Nat) (hb : h.2 b = some (pb_aI 4 cap g)) (hbG : pb_b G ≤ b) (hi : dg_n z ≤ i) (hi2 : i ≤ cap) (hcap : cap ≤ 1000) : pb_Ctr G mJ25_getChars 0 0 0 [pb_i z, pb_i i, pb_r b] h (fun oc h' => (∃ q : Int, oc = .inl (some (pb_i q))) ∧ h'.1 = h.1 ∧ h'.2 b = some (pb_aI 4 cap (dg_g g i z)) ∧ ∀ x, x ≠ b → h'.2 x = h.2 x) := by
  obtain ⟨-, ⟨g1, k1, k2⟩, ⟨g2, k3, k4⟩, -⟩ := hK
  have b1 := hG.1.2.1
  have b2 := hG.1.2.2.1
  unfold dg_n at hi
  unfold dg_g
  refine pb_Ctr.of rfl rfl rfl tJ25_getChars_ok rfl ?_
  (try refine pb_Ex.run rfl ?_)
  refine pb_Ex.ifT rfl (by omega) (by first | decide | (simp only [pb_cmp]; omega) | simp [pb_cmp]) ?_
  (try refine pb_Ex.run rfl ?_)
  refine pb_Ex.ifF rfl (by omega) (by first | decide | (simp only [pb_cmp]; omega) | simp [pb_cmp]) ?_
  (try refine pb_Ex.run rfl ?_)
  refine pb_Ex.run rfl ?_
  refine pb_Ex.icmpT rfl (by omega) (by omega) (by first | decide | (simp only [pb_cmp]; omega) | simp [pb_cmp]) ?_
  (try refine pb_Ex.run rfl ?_)
  refine pb_Ex.gets rfl hG.2.1.2.2.2.1 q1451 ?_
  refine pb_Ex.run rfl ?_
  refine pb_Ex.bat z rfl k1 (by omega) (by omega) ?_
  rw [k2 z (by omega)]
  by_cases c : z < 10
  · rw [if_pos c] at hi
    rw [if_pos c]
    refine pb_Ex.bstat (i - 1) rfl hb (by omega) (by omega) hbG (by omega) ?_
    refine pb_Ex.run rfl ?_
    refine pb_Ex.icmpT rfl (by omega) (by omega) (by first | decide | (simp only [pb_cmp]; omega) | simp [pb_cmp]) ?_
    (try refine pb_Ex.run rfl ?_)
    refine pb_Ex.ifT rfl (by omega) (by first | decide | (simp only [pb_cmp]; omega) | simp [pb_cmp]) ?_
    (try refine pb_Ex.run rfl ?_)
    have e1 : z % 10 = z := by omega
    rw [e1]
    refine pb_Ex.iret rfl rfl (by omega) (by omega) (⟨⟨_, rfl⟩, rfl, pb_set_same, fun x hx => pb_set_ne hx⟩)
  · rw [if_neg c] at hi
    rw [if_neg c]
    refine pb_Ex.bstat (i - 1) rfl hb (by omega) (by omega) hbG (by omega) ?_
    refine pb_Ex.run rfl ?_
    refine pb_Ex.icmpF rfl (by omega) (by omega) (by first | decide | (simp only [pb_cmp]; omega) | simp [pb_cmp]) ?_
    (try refine pb_Ex.run rfl ?_)
    refine pb_Ex.gets rfl hG.2.1.2.2.2.2 q1453 ?_
    refine pb_Ex.run rfl ?_
    refine pb_Ex.bat z rfl ((pb_set_ne (by omega)).trans k3) (by omega) (by omega) ?_
    rw [k4 z (by omega)]
    refine pb_Ex.bstat (i - 2) rfl pb_set_same (by omega) (by omega) hbG (by omega) ?_
    refine pb_Ex.run rfl ?_
    refine pb_Ex.ifT rfl (by omega) (by first | decide | (simp only [pb_cmp]; omega) | simp [pb_cmp]) ?_
    (try refine pb_Ex.run rfl ?_)
    refine pb_Ex.iret rfl rfl (by omega) (by omega) (⟨⟨_, rfl⟩, rfl, pb_set_same, fun x hx => by rw [pb_set_ne hx, pb_set_ne hx]⟩)
theorem dg_eq {g s : Nat → Int} {m z : Nat} (hz : z ≤ 99) (hg : ∀ j, j < m → g j = s j ∧ 0 ≤ s j ∧ s j < 128) : ∀ j, j < m + dg_n z → dg_g g (m + dg_n z) z j = dg_s s m z j ∧ 0 ≤ dg_s s m z j ∧ dg_s s m z j < 128 := by
  intro j hj
  unfold dg_n at hj ⊢
  unfold dg_g dg_s
  by_cases c : z < 10
  · simp only [if_pos c] at hj ⊢
    by_cases e1 : j = m
    · subst e1
      rw [show j + 1 - 1 = j by omega, va_upS, va_upS]
      omega
    · rw [show m + 1 - 1 = m by omega, va_upN _ _ e1, va_upN _ _ e1]
      exact hg j (by omega)
  · simp only [if_neg c] at hj ⊢
    rw [show m + 2 - 1 = m + 1 by omega, show m + 2 - 2 = m by omega]
    by_cases e1 : j = m + 1
    · subst e1
      rw [va_upN _ _ (by omega), va_upS, va_upS]
      omega
    · by_cases e2 : j = m
      · subst e2
        rw [va_upS, va_upN _ _ (by omega), va_upS]
        omega
      · rw [va_upN _ _ e2, va_upN _ _ e1, va_upN _ _ e1, va_upN _ _ e2]
        exact hg j (by omega)
theorem dg_rg {g : Nat → Int} {i z cap : Nat} (hz : z ≤ 99) (hg : ∀ j, j < cap → -128 ≤ g j ∧ g j < 128) : ∀ j, j < cap → -128 ≤ dg_g g i z j ∧ dg_g g i z j < 128 := by
  intro j hj
  have := hg j hj
  unfold dg_g va_up
  split <;> dsimp only <;> (try split) <;> (try split) <;> omega
theorem js_appI (hG : co_G G K) (hK : co_W K h) (hC : sb_C G h o e cap m s) (z : Nat) (hz : z ≤ 99) (hm : m + 2 ≤ 150) : pb_Ctr G mJ5_append 4 1 400 [pb_r o, pb_i z] h (fun oc h' => oc = .inl (some (pb_r o)) ∧ sb_St G h o e (m + dg_n z) (dg_s s m z) h') := by
  have hC' := hC
  obtain ⟨ml, g, k1, k2, k3, k4, k5, k6, k7, k8⟩ := hC
  have hd : dg_n z ≤ 2 := by unfold dg_n; split <;> omega
  have hoe : o ≠ e := fun q => by rw [← q, k2] at k3; cases k3
  refine pb_Ctr.of rfl rfl rfl tJ5_append_ok rfl ?_
  (try refine pb_Ex.run rfl ?_)
  refine pb_Ex.own k2 rfl (fun hob => ?_)
  refine pb_Ex.fin (fun hf => ?_)
  have hol := hf _ _ k2
  have hel := hf _ _ k3
  refine pb_Ex.getf rfl rfl k2 rfl ?_
  (try refine pb_Ex.run rfl ?_)
  refine pb_Ex.pS rfl rfl rfl rfl (ji_size z hz) (by omega) (by omega) (by omega) ?_
  (try refine pb_Ex.run rfl ?_)
  have e0 : (m : Int) + (dg_n z : Int) = ((m + dg_n z : Nat) : Int) := by omega
  rw [e0]
  refine pb_Ex.cA (M2 := mJ5_ensureCapacityInternal) rfl q1423 q1425 sl_ens ok_ens rfl rfl k2 (js_ens hC' (m + dg_n z) (by omega)) (by omega) (by omega) (by omega) (fun h1 e1 => ?_)
  obtain ⟨e', cap', hC1, c1, c2, c3, c4⟩ := e1
  have hC1' := hC1
  have hK1 : co_W K h1 := hK.lo hG c4 (fun b c hb _ => by omega)
  obtain ⟨ml1, g1, l1, l2, l3, l4, l5, l6, l7, l8⟩ := hC1
  (try refine pb_Ex.run rfl ?_)
  refine pb_Ex.cA (M2 := mJ5_isLatin1) rfl q1443 q1444 (Or.inl q1446) ok_lat rfl rfl l2 (js_lat hG hC1') (by omega) (by omega) (by omega) (fun h2 e2 => ?_)
  rw [e2]
  (try refine pb_Ex.run rfl ?_)
  refine pb_Ex.ifF rfl (by omega) (by first | decide | (simp only [pb_cmp]; omega) | simp [pb_cmp]) ?_
  (try refine pb_Ex.run rfl ?_)
  refine pb_Ex.getf rfl rfl l2 rfl ?_
  (try refine pb_Ex.run rfl ?_)
  have hoe1 : o ≠ e' := fun q => by rw [← q, l2] at l3; cases l3
  refine pb_Ex.cS rfl rfl rfl rfl (ji_chars hG hK1 z hz (m + dg_n z) l3 l4 (by omega) (by omega) (by omega)) ⟨by omega, by omega, by omega⟩ (fun v h3 hq1 => ?_) (fun E q9 h3 hq1 => by obtain ⟨⟨q, hq⟩, -⟩ := hq1; cases hq)
  obtain ⟨⟨q, d1⟩, d2, d3, d4⟩ := hq1
  cases d1
  (try refine pb_Ex.run rfl ?_)
  have l2' : h3.2 o = some (pb_ob 14 [pb_r e', pb_i 0, pb_i ml1, pb_i m]) := by rw [d4 _ hoe1]; exact l2
  refine pb_Ex.putf rfl rfl (l2') rfl rfl (by first | trivial | exact Or.inl rfl | exact Or.inr rfl | (show _ ∨ _; omega) | (show _ ∧ _; omega)) ?_
  (try refine pb_Ex.run rfl ?_)
  refine pb_Ex.aret rfl rfl (by first | exact Or.inl ⟨_, rfl⟩ | exact Or.inr ⟨_, rfl⟩) (by omega) (by omega) ⟨rfl, e', ⟨cap', ml1, _, l1, pb_set_same, (pb_set_ne (Ne.symm hoe1)).trans d3, l4, c1, l6, dg_rg hz l7, dg_eq hz l8⟩, c2, ?_, ?_, fun b c b1 b2 => ?_⟩
  · show h3.1 ≤ _
    omega
  · show h.1 ≤ h3.1
    have := c4.1
    omega
  · have b3 : b ≠ e' := fun q => by
      rcases c2 with c2 | c2
      · exact b2.2 (q.trans c2)
      · have := hf _ _ b1
        omega
    rw [pb_set_ne b2.1, d4 _ b3]
    exact c4.2 _ _ b1 b2.1
theorem js_appC (hG : co_G G K) (hC : sb_C G h o e cap m s) (z : Int) (hz : 0 ≤ z ∧ z < 128) (hm : m + 1 ≤ 150) : pb_Ctr G mJ5_append_2 4 1 400 [pb_r o, pb_i z] h (fun oc h' => oc = .inl (some (pb_r o)) ∧ sb_St G h o e (m + 1) (va_up s m z) h') := by
  have hC' := hC
  obtain ⟨ml, g, k1, k2, k3, k4, k5, k6, k7, k8⟩ := hC
  refine pb_Ctr.of rfl rfl rfl tJ5_append_2_ok rfl ?_
  (try refine pb_Ex.run rfl ?_)
  refine pb_Ex.fin (fun hf => ?_)
  have hol := hf _ _ k2
  have hel := hf _ _ k3
  refine pb_Ex.getf rfl rfl k2 rfl ?_
  (try refine pb_Ex.run rfl ?_)
  refine pb_Ex.cA (M2 := mJ5_ensureCapacityInternal) rfl q1423 q1425 sl_ens ok_ens rfl rfl k2 (js_ens hC' (m + 1) (by omega)) (by omega) (by omega) (by omega) (fun h1 e1 => ?_)
  obtain ⟨e', cap', hC1, c1, c2, c3, c4⟩ := e1
  have hC1' := hC1
  obtain ⟨ml1, g1, l1, l2, l3, l4, l5, l6, l7, l8⟩ := hC1
  have hoe1 : o ≠ e' := fun q => by rw [← q, l2] at l3; cases l3
  (try refine pb_Ex.run rfl ?_)
  refine pb_Ex.cA (M2 := mJ5_isLatin1) rfl q1443 q1444 (Or.inl q1446) ok_lat rfl rfl l2 (js_lat hG hC1') (by omega) (by omega) (by omega) (fun h2 e2 => ?_)
  rw [e2]
  (try refine pb_Ex.run rfl ?_)
  refine pb_Ex.ifF rfl (by omega) (by first | decide | (simp only [pb_cmp]; omega) | simp [pb_cmp]) ?_
  (try refine pb_Ex.run rfl ?_)
  refine pb_Ex.pS rfl rfl rfl rfl (v := some (pb_i 1)) (n2 := 0) ?_ (by omega) (by omega) (by omega) ?_
  · refine pb_Ctr.of rfl rfl rfl tJ21_canEncode_ok rfl ?_
    (try refine pb_Ex.run rfl ?_)
    refine pb_Ex.icmpF rfl (by omega) (by omega) (by first | decide | (simp only [pb_cmp]; omega) | simp [pb_cmp]) ?_
    (try refine pb_Ex.run rfl ?_)
    refine pb_Ex.zret (ty := .boolean) rfl rfl (pb_nb (Or.inr rfl)).1 (by omega) (by omega) (⟨rfl, rfl⟩)
  refine pb_Ex.ifF rfl (by omega) (by first | decide | (simp only [pb_cmp]; omega) | simp [pb_cmp]) ?_
  (try refine pb_Ex.run rfl ?_)
  refine pb_Ex.getf rfl rfl l2 rfl ?_
  (try refine pb_Ex.run rfl ?_)
  refine pb_Ex.getf rfl rfl l2 rfl ?_
  (try refine pb_Ex.run rfl ?_)
  refine pb_Ex.putf rfl rfl (l2) rfl rfl (by first | trivial | exact Or.inl rfl | exact Or.inr rfl | (show _ ∨ _; omega) | (show _ ∧ _; omega)) ?_
  (try refine pb_Ex.run rfl ?_)
  refine pb_Ex.i2b rfl (by omega) ?_
  refine pb_Ex.bstat m rfl ((pb_set_ne (Ne.symm hoe1)).trans l3) rfl (by omega) l4 (by omega) ?_
  refine pb_Ex.run rfl ?_
  refine pb_Ex.aret rfl rfl (by first | exact Or.inl ⟨_, rfl⟩ | exact Or.inr ⟨_, rfl⟩) (by omega) (by omega) ⟨rfl, e', ⟨cap', ml1, _, l1, (pb_set_ne hoe1).trans pb_set_same, pb_set_same, l4, c1, l6, fun j hj => ?_, fun j hj => ?_⟩, c2, ?_, ?_, fun b c b1 b2 => ?_⟩
  · by_cases e5 : j = m
    · subst e5
      rw [va_upS]
      omega
    · rw [va_upN _ _ e5]
      exact l7 j hj
  · by_cases e5 : j = m
    · subst e5
      rw [va_upS, va_upS]
      exact ⟨rfl, hz⟩
    · rw [va_upN _ _ e5, va_upN _ _ e5]
      exact l8 j (by omega)
  · show h1.1 ≤ _
    omega
  · show h.1 ≤ h1.1
    exact c4.1
  · have b3 : b ≠ e' := fun q => by
      rcases c2 with c2 | c2
      · exact b2.2 (q.trans c2)
      · have := hf _ _ b1
        omega
    rw [pb_set_ne b3, pb_set_ne b2.1]
    exact c4.2 _ _ b1 b2.1
end SB2
