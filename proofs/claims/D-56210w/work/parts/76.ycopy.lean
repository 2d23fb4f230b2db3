set_option maxRecDepth 100000
/-- the copy's numbers while it is made: j hulls, m orders -/
def yd_c (f : Nat → Int) (ct cs : Nat → Int) (j m : Nat) : Nat → Int := fun i => if i = 0 then j else if i = 2 then m else if i = 1 ∨ i = 3 ∨ i = 4 then 0 else if i < 17 then ct (i - 5) else if i < 21 then cs (i - 17) else f i
theorem yd_c.hi {f ct cs : Nat → Int} {j m i : Nat} (h : 21 ≤ i) : yd_c f ct cs j m i = f i := by
  unfold yd_c
  rw [if_neg (by omega), if_neg (by omega), if_neg (by omega), if_neg (by omega), if_neg (by omega)]
/-- what the copy is -/
def yd_Cp (K : co_K) (h : pb_H) (f : Nat → Int) (h' : pb_H) : Prop := ∃ A, A 0 = h.1 ∧ yd_W K h' A f ∧ yd_J K A (f 0).toNat h.1 ∧ (∀ i, i < 7 + 4 * (f 0).toNat → A i < h'.1) ∧ h'.1 ≤ h.1 + 90 ∧ fr_x h h'
section COPY
variable {G : pb_G} {K : co_K} {h : pb_H} {A : Nat → Nat} {f : Nat → Int} {t : Nat}
theorem yd_copy (hG : co_G G K) (hK : co_W K h) (hW : yd_W K h A f) (ok : ya_ok t f) (hD : ∀ x, h.1 ≤ x → co_D K x) : pb_Ctr G mX2_copy 9 90 1100 [pb_r (A 0)] h (fun oc h' => oc = .inl (some (pb_r h.1)) ∧ yd_Cp K h f h') := by
  have hn := ok.num
  refine pb_Ctr.of rfl rfl rfl tX2_copy_ok rfl ?_
  (try refine pb_Ex.run rfl ?_)
  refine pb_Ex.fin (fun hf => ?_)
  obtain ⟨qE, hqE⟩ := id hK.1
  have hEl : co_E K < h.1 := hf _ _ hqE
  refine pb_Ex.new 1 7 RX2 TX2 [pb_0, pb_0, pb_0, pb_0, pb_i 0, pb_i 0, pb_j 0] rfl rfl rfl rfl (fun j hj => by
    have hj : j < 7 := hj
    match j, hj with
    | 0, _ => rfl
    | 1, _ => rfl
    | 2, _ => rfl
    | 3, _ => rfl
    | 4, _ => rfl
    | 5, _ => rfl
    | 6, _ => rfl) (by omega) (by omega) ?_
  refine pb_Ex.run rfl ?_
  refine pb_Ex.cIo rfl rfl rfl rfl (yd_init hG pb_new_same) (by omega) (by omega) (by omega) (fun h1 e1 => ?_)
  obtain ⟨a1, a2, a3, a4, ⟨ct, a5, a6⟩, ⟨cs, a7, a8⟩, a9⟩ := e1
  have en : (pb_new h (pb_ob 1 [pb_0, pb_0, pb_0, pb_0, pb_i 0, pb_i 0, pb_j 0])).1 = h.1 + 1 := rfl
  rw [en] at a1 a2 a3 a4 a5 a7 a9
  refine pb_Ex.run rfl ?_
  have x1 : fr_x h h1 := ⟨by omega, fun b c hb _ => by
    have := hf b c hb
    rw [a9 b (by omega) (by omega), pb_new_ne (by omega)]
    exact hb⟩
  have hm6 : (f 2).toNat ≤ 6 := by omega
  have hn6 : (f 0).toNat ≤ 6 := by omega
  have n8 : ∀ g : Nat → Int, (∀ i, 21 ≤ i → g i = f i) → ∀ j, j < (f 0).toNat → ya_n g j ≤ 8 := fun g hg j hj => by
    have := ok.nn (k := j) (by omega)
    unfold ya_n at this ⊢
    rw [hg _ (by omega)]
    omega
  have last : ∀ (h2 : pb_H) (A' : Nat → Nat) (cc uu : Nat) (y2 y3 : Option pb_V), A' 0 = h.1 → yd_W K h2 A' (yd_c f ct cs (f 0).toNat (f 2).toNat) → yd_J K A' (f 0).toNat h.1 → (∀ i, i < 7 + 4 * (f 0).toNat → A' i < h2.1) → fr_x h h2 → h2.1 ≤ h.1 + 90 → cc ≤ 90 → uu ≤ 1100 → pb_Ex G mX2_copy 9 90 1100 (fun oc h' => oc = .inl (some (pb_r h.1)) ∧ yd_Cp K h f h') cc uu 91 [some (pb_r (A 0)), some (pb_r h.1), y2, y3] [] h2 := by
    intro h2 A' cc uu y2 y3 p0 p1 p2 p3 p4 p5 hc hu
    have p2' : yd_J K A' (yd_c f ct cs (f 0).toNat (f 2).toNat 0).toNat h.1 := p2
    have hWs := hW.x p4
    obtain ⟨c3, k6, k7⟩ := hWs.2.2.2.2.1
    obtain ⟨d3, m6, m7⟩ := p1.2.2.2.2.1
    obtain ⟨d4, m8, m9⟩ := p1.2.2.2.2.2.1
    obtain ⟨qE2, hqE2⟩ : ∃ q, h2.2 (co_E K) = some (pb_aR 0 q) := ⟨_, p4.at hqE⟩
    have nE0 : A' 0 ≠ co_E K := by omega
    have nE3 : A' 3 ≠ co_E K := fun z => by rw [z, hqE2] at m6; cases m6
    have nE4 : A' 4 ≠ co_E K := fun z => by rw [z, hqE2] at m8; cases m8
    have l3 : h.1 ≤ A' 3 := by rcases p2.2 3 (by omega) with z | z; exact z; exact absurd z nE3
    have l4 : h.1 ≤ A' 4 := by rcases p2.2 4 (by omega) with z | z; exact z; exact absurd z nE4
    have n03 : A' 0 ≠ A' 3 := fun z => nE0 (p2.1 0 3 (by omega) (by omega) z)
    have n04 : A' 0 ≠ A' 4 := fun z => nE0 (p2.1 0 4 (by omega) (by omega) z)
    have n34 : A' 3 ≠ A' 4 := fun z => nE3 (p2.1 3 4 (by omega) (by omega) z)
    have o1 := p1.1
    rw [p0] at o1
    refine pb_Ex.run rfl ?_
    refine pb_Ex.getf rfl rfl hWs.1 rfl ?_
    (try refine pb_Ex.run rfl ?_)
    refine pb_Ex.getf rfl rfl o1 rfl ?_
    (try refine pb_Ex.run rfl ?_)
    refine pb_Ex.acpI 0 0 12 rfl rfl k6 m6 rfl rfl rfl (by omega) (by omega) rfl (by omega) ?_
    refine pb_Ex.run rfl ?_
    have s3 : (pb_set h2 (A' 3) (pb_aI 0 12 (va_cpy c3 d3 0 0 12))).1 = h2.1 := rfl
    have x3 : fr_x h (pb_set h2 (A' 3) (pb_aI 0 12 (va_cpy c3 d3 0 0 12))) := p4.st hf _ l3
    have o3 : (pb_set h2 (A' 3) (pb_aI 0 12 (va_cpy c3 d3 0 0 12))).2 h.1 = some (pb_ob 1 [pb_r (A' 1), pb_r (A' 2), pb_r (A' 3), pb_r (A' 4), pb_i 0, pb_i 0, pb_j 0]) := by rw [pb_set_ne (by omega)]; exact o1
    have W3 : yd_W K (pb_set h2 (A' 3) (pb_aI 0 12 (va_cpy c3 d3 0 0 12))) A' (fun i => if 5 ≤ i ∧ i < 17 then f i else yd_c f ct cs (f 0).toNat (f 2).toNat i) := by
      refine yd_W.arr (x := 3) (N := 12) (h := h2) (g0 := d3) (c' := va_cpy c3 d3 0 0 12) p1 p2' (n8 _ (fun i hi => yd_c.hi hi)) (Or.inl ⟨rfl, rfl⟩) nE3 (fr_P.rf.st _ (fun c hc z => z rfl)) m6 pb_set_same (fun _ j hj => ?_) (fun z => absurd z (by omega)) (fun i hi => if_neg (by omega)) (fun z => absurd rfl z) (fun _ i hi => if_neg (by omega))
      rw [if_pos (by omega), ← k7 j hj]
      unfold va_cpy
      rw [if_pos (by omega), show 0 + (j - 0) = j by omega]
    have m83 := (pb_set_ne (x := pb_aI 0 12 (va_cpy c3 d3 0 0 12)) (h := h2) (Ne.symm n34)).trans m8
    generalize pb_set h2 (A' 3) (pb_aI 0 12 (va_cpy c3 d3 0 0 12)) = h3 at s3 x3 o3 W3 m83 ⊢
    have hWs3 := hW.x x3
    obtain ⟨c4, k8, k9⟩ := hWs3.2.2.2.2.2.1
    refine pb_Ex.getf rfl rfl hWs3.1 rfl ?_
    (try refine pb_Ex.run rfl ?_)
    refine pb_Ex.getf rfl rfl o3 rfl ?_
    (try refine pb_Ex.run rfl ?_)
    refine pb_Ex.acpI 0 0 4 rfl rfl k8 m83 rfl rfl rfl (by omega) (by omega) rfl (by omega) ?_
    refine pb_Ex.run rfl ?_
    have s4 : (pb_set h3 (A' 4) (pb_aI 0 4 (va_cpy c4 d4 0 0 4))).1 = h2.1 := s3
    have x4 : fr_x h (pb_set h3 (A' 4) (pb_aI 0 4 (va_cpy c4 d4 0 0 4))) := x3.st hf _ l4
    have o4 : (pb_set h3 (A' 4) (pb_aI 0 4 (va_cpy c4 d4 0 0 4))).2 h.1 = some (pb_ob 1 [pb_r (A' 1), pb_r (A' 2), pb_r (A' 3), pb_r (A' 4), pb_i 0, pb_i 0, pb_j 0]) := by rw [pb_set_ne (by omega)]; exact o3
    have W4 : yd_W K (pb_set h3 (A' 4) (pb_aI 0 4 (va_cpy c4 d4 0 0 4))) A' (fun i => if 5 ≤ i ∧ i < 21 then f i else yd_c f ct cs (f 0).toNat (f 2).toNat i) := by
      refine yd_W.arr (x := 4) (N := 4) (h := h3) (g0 := d4) (c' := va_cpy c4 d4 0 0 4) W3 p2' (n8 _ (fun i hi => (if_neg (by omega)).trans (yd_c.hi hi))) (Or.inr ⟨rfl, rfl⟩) nE4 (fr_P.rf.st _ (fun c hc z => z rfl)) m83 pb_set_same (fun z => absurd z (by omega)) (fun _ j hj => ?_) (fun i hi => ?_) (fun _ i hi => ?_) (fun z => absurd rfl z)
      · rw [if_pos (by omega), ← k9 j hj]
        unfold va_cpy
        rw [if_pos (by omega), show 0 + (j - 0) = j by omega]
      · rw [if_neg (by omega), if_neg (by omega)]
      · rw [if_pos (by omega), if_pos (by omega)]
    generalize pb_set h3 (A' 4) (pb_aI 0 4 (va_cpy c4 d4 0 0 4)) = h4 at s4 x4 o4 W4 ⊢
    refine pb_Ex.getf rfl rfl (hW.x x4).1 rfl ?_
    (try refine pb_Ex.run rfl ?_)
    refine pb_Ex.putf rfl rfl (o4) rfl rfl (by first | trivial | exact Or.inl rfl | exact Or.inr rfl | (show _ ∨ _; omega) | (show _ ∧ _; omega)) ?_
    (try refine pb_Ex.run rfl ?_)
    have x5 := x4.st hf (b := h.1) (pb_ob 1 ([pb_r (A' 1), pb_r (A' 2), pb_r (A' 3), pb_r (A' 4), pb_i 0, pb_i 0, pb_j 0].set 4 (pb_i (f 1)))) (Nat.le_refl _)
    refine pb_Ex.getf rfl rfl (hW.x x5).1 rfl ?_
    (try refine pb_Ex.run rfl ?_)
    refine pb_Ex.putf rfl rfl (pb_set_same) rfl rfl (by first | trivial | exact Or.inl rfl | exact Or.inr rfl | (show _ ∨ _; omega) | (show _ ∧ _; omega)) ?_
    (try refine pb_Ex.run rfl ?_)
    have x6 := x5.st hf (b := h.1) (pb_ob 1 (([pb_r (A' 1), pb_r (A' 2), pb_r (A' 3), pb_r (A' 4), pb_i 0, pb_i 0, pb_j 0].set 4 (pb_i (f 1))).set 5 (pb_i (f 3)))) (Nat.le_refl _)
    refine pb_Ex.getf rfl rfl (hW.x x6).1 rfl ?_
    (try refine pb_Ex.run rfl ?_)
    refine pb_Ex.putf rfl rfl (pb_set_same) rfl rfl (by first | trivial | exact Or.inl rfl | exact Or.inr rfl | (show _ ∨ _; omega) | (show _ ∧ _; omega)) ?_
    (try refine pb_Ex.run rfl ?_)
    refine pb_Ex.aret rfl rfl (Or.inl ⟨_, rfl⟩) (by omega) (by omega) ⟨rfl, A', p0, ?_, p2, fun i hi => ?_, ?_, ?_⟩
    · refine yd_W.fld W4 (n8 _ (fun i hi => (if_neg (by omega)).trans (yd_c.hi hi))) ?_ ?_ (fun i c1 c2 c3 => ?_)
      · rw [p0]
        exact ((fr_P.rf.st _ (fun c hc z => z rfl)).st _ (fun c hc z => z rfl)).st _ (fun c hc z => z rfl)
      · rw [p0]
        exact pb_set_same
      · unfold yd_c
        by_cases q1 : 5 ≤ i ∧ i < 21
        · rw [if_pos q1]
        · rw [if_neg q1]
          by_cases q2 : i = 0
          · rw [if_pos q2, q2]; omega
          · rw [if_neg q2]
            by_cases q3 : i = 2
            · rw [if_pos q3, q3]; omega
            · rw [if_neg q3, if_neg (by omega), if_neg (by omega), if_neg (by omega)]
    · show A' i < h4.1
      rw [s4]; exact p3 i hi
    · show h4.1 ≤ _
      omega
    · exact x6.st hf (b := h.1) _ (Nat.le_refl _)
  have ords : ∀ (d j : Nat) (z : Int) (h2 : pb_H) (A' : Nat → Nat) (cc uu : Nat) (y3 : Option pb_V), j + d = (f 2).toNat → z = j → A' 0 = h.1 → yd_W K h2 A' (yd_c f ct cs (f 0).toNat j) → yd_J K A' (f 0).toNat h.1 → (∀ i, i < 7 + 4 * (f 0).toNat → A' i < h2.1) → fr_x h h2 → h2.1 ≤ h.1 + 80 + j → cc + d ≤ 90 → uu + 15 * d ≤ 1100 → pb_Ex G mX2_copy 9 90 1100 (fun oc h' => oc = .inl (some (pb_r h.1)) ∧ yd_Cp K h f h') cc uu 55 [some (pb_r (A 0)), some (pb_r h.1), some (pb_i z), y3] [] h2 := by
    intro d
    induction d with
    | zero =>
      intro j z h2 A' cc uu y3 hj hz p0 p1 p2 p3 p4 p5 hc hu
      have ej : j = (f 2).toNat := by omega
      subst ej
      have hWs := hW.x p4
      obtain ⟨g, hO1, hO2⟩ := hWs.2.2.2.1
      obtain ⟨mc, ho⟩ := hO1.obj
      refine pb_Ex.run rfl ?_
      refine pb_Ex.getf rfl rfl hWs.1 rfl ?_
      (try refine pb_Ex.run rfl ?_)
      refine pb_Ex.pV rfl rfl rfl rfl (ho) rfl rfl (ja_size hO1) (by omega) (by omega) (by omega) ?_
      (try refine pb_Ex.run rfl ?_)
      refine pb_Ex.icmpT rfl (by omega) (by omega) (by first | decide | (simp only [pb_cmp]; omega) | simp [pb_cmp]) ?_
      exact last h2 A' _ _ _ _ p0 p1 p2 p3 p4 (by omega) (by omega) (by omega)
    | succ d ih =>
      intro j z h2 A' cc uu y3 hj hz p0 p1 p2 p3 p4 p5 hc hu
      subst hz
      have hWs := hW.x p4
      obtain ⟨g, hO1, hO2⟩ := hWs.2.2.2.1
      obtain ⟨mc, ho⟩ := hO1.obj
      obtain ⟨g2, hQ1, hQ2⟩ := id p1.2.2.2.1
      obtain ⟨mc2, ho2⟩ := hQ1.obj
      have hK2 : co_W K h2 := hK.x hG p4
      have o1 := p1.1
      rw [p0] at o1
      obtain ⟨qE2, hqE2⟩ : ∃ q, h2.2 (co_E K) = some (pb_aR 0 q) := ⟨_, p4.at hqE⟩
      have nE2 : A' 2 ≠ co_E K := fun z => by rw [z, hqE2] at ho2; cases ho2
      have l2 : h.1 ≤ A' 2 := by rcases p2.2 2 (by omega) with z | z; exact z; exact absurd z nE2
      refine pb_Ex.run rfl ?_
      refine pb_Ex.getf rfl rfl hWs.1 rfl ?_
      (try refine pb_Ex.run rfl ?_)
      refine pb_Ex.pV rfl rfl rfl rfl (ho) rfl rfl (ja_size hO1) (by omega) (by omega) (by omega) ?_
      (try refine pb_Ex.run rfl ?_)
      refine pb_Ex.icmpF rfl (by omega) (by omega) (by first | decide | (simp only [pb_cmp]; omega) | simp [pb_cmp]) ?_
      (try refine pb_Ex.run rfl ?_)
      refine pb_Ex.getf rfl rfl o1 rfl ?_
      (try refine pb_Ex.run rfl ?_)
      refine pb_Ex.getf rfl rfl hWs.1 rfl ?_
      (try refine pb_Ex.run rfl ?_)
      refine pb_Ex.pV rfl rfl rfl rfl (ho) rfl rfl (ja_get hO1 j (by omega)) (by omega) (by omega) (by omega) ?_
      (try refine pb_Ex.run rfl ?_)
      refine pb_Ex.cast0 rfl rfl ((hO2 j (by omega))) (fun r hr => by cases hr; rfl) ?_
      (try refine pb_Ex.run rfl ?_)
      refine pb_Ex.cV rfl rfl rfl rfl ho2 rfl rfl (ja_add hG hK2 hQ1 (by show j < 15; omega) (hO2 j (by omega)) (by decide)) ⟨by omega, by omega, by omega⟩ (fun v h3 hq => ?_) (fun E q9 h2 hq => by cases hq.1)
      obtain ⟨d1, e', d2, d3, d4, d5, d6⟩ := hq
      cases d1
      (try refine pb_Ex.run rfl ?_)
      refine pb_Ex.fin (fun hf3 => ?_)
      have ej : ((yd_c f ct cs (f 0).toNat j) 2).toNat = j := rfl
      rw [ej] at d2
      have e6 : e' < h3.1 := by obtain ⟨mc5, cap5, q5, r1, r2, -⟩ := d2; exact hf3 _ _ r2
      have ge3 := d6.1
      have J' : yd_J K (va_up A' 6 e') (f 0).toNat h.1 := by
        rcases d3 with d3 | d3
        · rw [d3, va_upid]; exact p2
        · exact p2.up (fun i hi => by have := p3 i hi; omega) (by have := p4.1; omega)
      have x3 : fr_x h h3 := ⟨Nat.le_trans p4.1 d6.1, fun b c hb _ => by
        have hbl := hf b c hb
        refine d6.2 b c (p4.at hb) ⟨by omega, ?_⟩
        rcases p2.2 6 (by omega) with z | z
        · exact Or.inl (by omega)
        · by_cases q : b = A' 6
          · exact Or.inr (q.trans z)
          · exact Or.inl q⟩
      have ne6 : ∀ b fs, h2.2 b = some (pb_ob 8 fs) → b ≠ A' 2 ∧ (b ≠ A' 6 ∨ b = co_E K) := fun b fs hb => by
        obtain ⟨mc5, cap5, q5, r1, r2, -⟩ := id hQ1
        refine ⟨fun z => ?_, Or.inl (fun z => ?_)⟩
        · rw [z, r1] at hb; cases hb
        · rw [z, r2] at hb; cases hb
      refine ih (j + 1) _ h3 (va_up A' 6 e') _ _ _ (by omega) (by omega) ((va_upN _ _ (by omega)).trans p0) ?_ J' (fun i hi => ?_) x3 (by omega) (by omega) (by omega)
      · refine yd_W.ords (lo := h.1) (g' := va_up g2 j (g j)) p1 p2 d6 ⟨?_, fun i hi => ?_⟩ (n8 _ (fun i hi => yd_c.hi hi)) (fun i hi h9 => ?_) (by show (f 0).toNat ≤ 6; omega) nE2
        · rw [va_upN A' e' (show 2 ≠ 6 by omega), va_upS]
          exact d2
        · have hi : i < j + 1 := hi
          rw [yd_c.hi (by omega), yd_c.hi (by omega), yd_c.hi (by omega), yd_c.hi (by omega)]
          by_cases c1 : i = j
          · subst c1
            rw [va_upS]
            exact d6.2 _ _ (hO2 i (by omega)) (ne6 _ _ (hO2 i (by omega)))
          · rw [va_upN _ _ c1]
            have q := hQ2 i (by show i < j; omega)
            rw [yd_c.hi (by omega), yd_c.hi (by omega), yd_c.hi (by omega), yd_c.hi (by omega)] at q
            exact d6.2 _ _ q (ne6 _ _ q)
        · unfold yd_c
          by_cases q1 : i = 0
          · rw [if_pos q1, if_pos q1]
          · rw [if_neg q1, if_neg hi, if_neg q1, if_neg hi]
      · by_cases q : i = 6
        · subst q; rw [va_upS]; exact e6
        · rw [va_upN _ _ q]; have := p3 i hi; omega
  have hulls : ∀ (d j : Nat) (z : Int) (h2 : pb_H) (A' : Nat → Nat) (cc uu : Nat) (y3 : Option pb_V), j + d = (f 0).toNat → z = j → A' 0 = h.1 → yd_W K h2 A' (yd_c f ct cs j 0) → yd_J K A' j h.1 → (∀ i, i < 7 + 4 * j → A' i < h2.1) → fr_x h h2 → h2.1 ≤ h.1 + 5 + 12 * j → cc + 12 * d ≤ 80 → uu + 152 * d ≤ 1000 → pb_Ex G mX2_copy 9 90 1100 (fun oc h' => oc = .inl (some (pb_r h.1)) ∧ yd_Cp K h f h') cc uu 10 [some (pb_r (A 0)), some (pb_r h.1), some (pb_i z), y3] [] h2 := by
    intro d
    induction d with
    | zero =>
      intro j z h2 A' cc uu y3 hj hz p0 p1 p2 p3 p4 p5 hc hu
      have ej : j = (f 0).toNat := by omega
      subst ej
      have hWs := hW.x p4
      obtain ⟨mc, ho⟩ := hWs.2.1.obj
      refine pb_Ex.run rfl ?_
      refine pb_Ex.getf rfl rfl hWs.1 rfl ?_
      (try refine pb_Ex.run rfl ?_)
      refine pb_Ex.pV rfl rfl rfl rfl (ho) rfl rfl (ja_size hWs.2.1) (by omega) (by omega) (by omega) ?_
      (try refine pb_Ex.run rfl ?_)
      refine pb_Ex.icmpT rfl (by omega) (by omega) (by first | decide | (simp only [pb_cmp]; omega) | simp [pb_cmp]) ?_
      (try refine pb_Ex.run rfl ?_)
      exact ords (f 2).toNat 0 _ h2 A' _ _ _ (by omega) rfl p0 p1 p2 p3 p4 (by omega) (by omega) (by omega)
    | succ d ih =>
      intro j z h2 A' cc uu y3 hj hz p0 p1 p2 p3 p4 p5 hc hu
      subst hz
      refine pb_Ex.fin (fun hf2 => ?_)
      have hWs := hW.x p4
      obtain ⟨mc, ho⟩ := hWs.2.1.obj
      have ej : ((yd_c f ct cs j 0) 0).toNat = j := rfl
      have hL := p1.2.1
      rw [ej] at hL
      obtain ⟨mc2, ho2⟩ := hL.obj
      have o1 := p1.1
      rw [p0] at o1
      have hqE2 := p4.at hqE
      have nE1 : A' 1 ≠ co_E K := fun z => by rw [z, hqE2] at ho2; cases ho2
      have l1 : h.1 ≤ A' 1 := by rcases p2.2 1 (by omega) with z | z; exact z; exact absurd z nE1
      have oh : hu_ok f j := ok.hu2 (by omega)
      have t0 := p3 0 (by omega)
      have t1 := p3 1 (by omega)
      have t5 := p3 5 (by omega)
      refine pb_Ex.run rfl ?_
      refine pb_Ex.getf rfl rfl hWs.1 rfl ?_
      (try refine pb_Ex.run rfl ?_)
      refine pb_Ex.pV rfl rfl rfl rfl (ho) rfl rfl (ja_size hWs.2.1) (by omega) (by omega) (by omega) ?_
      (try refine pb_Ex.run rfl ?_)
      refine pb_Ex.icmpF rfl (by omega) (by omega) (by first | decide | (simp only [pb_cmp]; omega) | simp [pb_cmp]) ?_
      (try refine pb_Ex.run rfl ?_)
      refine pb_Ex.getf rfl rfl o1 rfl ?_
      (try refine pb_Ex.run rfl ?_)
      refine pb_Ex.new 5 6 RX6 TX6 [pb_i 0, pb_0, pb_0, pb_0, pb_i 0, pb_i 0] rfl rfl rfl rfl (fun j hj => by
        have hj : j < 6 := hj
        match j, hj with
        | 0, _ => rfl
        | 1, _ => rfl
        | 2, _ => rfl
        | 3, _ => rfl
        | 4, _ => rfl
        | 5, _ => rfl) (by omega) (by omega) ?_
      refine pb_Ex.run rfl ?_
      have x3 : fr_x h2 (pb_new h2 (pb_ob 5 [pb_i 0, pb_0, pb_0, pb_0, pb_i 0, pb_i 0])) := fr_x.rf.nw hf2 _
      have s3 : (pb_new h2 (pb_ob 5 [pb_i 0, pb_0, pb_0, pb_0, pb_i 0, pb_i 0])).1 = h2.1 + 1 := rfl
      have b3 : (pb_new h2 (pb_ob 5 [pb_i 0, pb_0, pb_0, pb_0, pb_i 0, pb_i 0])).2 h2.1 = some (pb_ob 5 [pb_i 0, pb_0, pb_0, pb_0, pb_i 0, pb_i 0]) := pb_new_same
      generalize pb_new h2 (pb_ob 5 [pb_i 0, pb_0, pb_0, pb_0, pb_i 0, pb_i 0]) = h3 at x3 s3 b3 ⊢
      have hWs3 := hWs.x x3
      obtain ⟨mc3, ho3⟩ := hWs3.2.1.obj
      refine pb_Ex.getf rfl rfl hWs3.1 rfl ?_
      (try refine pb_Ex.run rfl ?_)
      refine pb_Ex.pV rfl rfl rfl rfl (ho3) rfl rfl (ja_get hWs3.2.1 j (by omega)) (by omega) (by omega) (by omega) ?_
      (try refine pb_Ex.run rfl ?_)
      refine pb_Ex.cast0 rfl rfl ((hWs3.2.2.1 j (by omega)).1) (fun r hr => by cases hr; rfl) ?_
      (try refine pb_Ex.run rfl ?_)
      have hK3 : co_W K h3 := (hK.x hG p4).x hG x3
      refine pb_Ex.cIo rfl rfl rfl rfl (hu_init hG hK3 b3 (hWs3.2.2.1 j (by omega)) oh (hD _ (by have := p4.1; omega))) (by omega) (by omega) (by omega) (fun h4 e1 => ?_)
      obtain ⟨s4, s4', ⟨eB, hH, heB⟩, x4⟩ := e1
      rw [s3] at s4 s4' hH heB
      (try refine pb_Ex.run rfl ?_)
      refine pb_Ex.fin (fun hf4 => ?_)
      have keep4 : ∀ b c, h2.2 b = some c → h4.2 b = some c := fun b c hb => x4.2 b c (x3.at hb) (by have := hf2 b c hb; omega)
      have x24 : fr_x h2 h4 := ⟨by omega, fun b c hb _ => keep4 b c hb⟩
      have hL4 := hL.x x24
      obtain ⟨mc4, ho4⟩ := hL4.obj
      have hK4 : co_W K h4 := (hK.x hG p4).x hG x24
      refine pb_Ex.cV rfl rfl rfl rfl ho4 rfl rfl (ja_add hG hK4 hL4 (by omega) hH.1 (by decide)) ⟨by omega, by omega, by omega⟩ (fun v h5 hq => ?_) (fun E q9 h2 hq => by cases hq.1)
      obtain ⟨d1, e', d2, d3, d4, d5, d6⟩ := hq
      cases d1
      (try refine pb_Ex.run rfl ?_)
      refine pb_Ex.fin (fun hf5 => ?_)
      have hE2 := hf2 _ _ hqE2
      have eBl : eB < h4.1 := by obtain ⟨g5, ⟨mc5, cap5, q5, r1, r2, -⟩, -⟩ := hH.2.1; exact hf4 _ _ r2
      have e5 : e' < h5.1 := by obtain ⟨mc5, cap5, q5, r1, r2, -⟩ := d2; exact hf5 _ _ r2
      have ge5 := d6.1
      have nA : ∀ b, b ≠ A' 1 → (b < h.1 → b ≠ A' 5 ∨ b = co_E K) := fun b _ hb => by
        rcases p2.2 5 (by omega) with z | z
        · exact Or.inl (by omega)
        · by_cases q : b = A' 5
          · exact Or.inr (q.trans z)
          · exact Or.inl q
      have x5 : fr_x h h5 := ⟨by have := p4.1; omega, fun b c hb _ => by
        have hbl := hf b c hb
        exact d6.2 b c (keep4 _ _ (p4.at hb)) ⟨by omega, nA b (by omega) hbl⟩⟩
      have fr25 : fr_P (fun b _ => b ≠ A' 1 ∧ (b ≠ A' 5 ∨ b = co_E K)) h2 h5 := ⟨by omega, fun b c hb hp => d6.2 b c (keep4 b c hb) hp⟩
      have hHf : hu_W K h5 (hu_B h2.1 (h2.1 + 1) (h2.1 + 1 + 1) eB) j f := by
        refine hH.fr d6 (fun i hi c hc => ?_) (fun b fs hb => ?_)
        · match i, hi with
          | 0, _ => exact ⟨by show h2.1 ≠ _; omega, Or.inl (by show h2.1 ≠ _; omega)⟩
          | 1, _ => exact ⟨by show h2.1 + 1 ≠ _; omega, Or.inl (by show h2.1 + 1 ≠ _; omega)⟩
          | 2, _ => exact ⟨by show h2.1 + 1 + 1 ≠ _; omega, Or.inl (by show h2.1 + 1 + 1 ≠ _; omega)⟩
          | 3, _ =>
            refine ⟨?_, ?_⟩
            · show eB ≠ _
              rcases heB with z | z
              · rw [z]; exact Ne.symm nE1
              · omega
            · show eB ≠ _ ∨ eB = _
              rcases heB with z | z
              · exact Or.inr z
              · exact Or.inl (by omega)
        · obtain ⟨mc5, cap5, q5, r1, r2, -⟩ := id hL4
          refine ⟨fun z => ?_, Or.inl (fun z => ?_)⟩
          · rw [z, r1] at hb; cases hb
          · rw [z, r2] at hb; cases hb
      have hH5 : hu_W K h5 (hu_B h2.1 (h2.1 + 1) (h2.1 + 1 + 1) eB) j (yd_c f ct cs (j + 1) 0) := hHf.cg (oh.nn.2) (fun i hi => yd_c.hi (by omega))
      have n8j : ∀ i, i < j → ya_n (yd_c f ct cs j 0) i ≤ 8 := fun i hi => n8 _ (fun i hi => yd_c.hi hi) i (by omega)
      have fc : ∀ i, i ≠ 0 → yd_c f ct cs (j + 1) 0 i = yd_c f ct cs j 0 i := fun i hi => by
        unfold yd_c
        rw [if_neg hi, if_neg hi]
      have W5 := yd_W.addH (f' := yd_c f ct cs (j + 1) 0) p1 p2 rfl fr25 d2 hH5 n8j (fun i hi _ => fc i hi) rfl (by show j < 6; omega) (by show (0 : Nat) ≤ 6; omega) nE1
      rw [ej] at W5
      have J5 : yd_J K (yd_A A' j e' (hu_B h2.1 (h2.1 + 1) (h2.1 + 1 + 1) eB)) (j + 1) h.1 := by
        refine p2.addH p3 (by omega) (fun i hi => ?_) (fun i i' hii hi' e => ?_) (fun i hi e => ?_) p4.1
        · match i, hi with
          | 0, _ => exact Or.inl (Nat.le_refl _)
          | 1, _ => exact Or.inl (by show _ ≤ h2.1 + 1; omega)
          | 2, _ => exact Or.inl (by show _ ≤ h2.1 + 1 + 1; omega)
          | 3, _ =>
            rcases heB with z | z
            · exact Or.inr z
            · exact Or.inl (by show _ ≤ eB; omega)
        · match i', i, hii, hi' with
          | 1, 0, _, _ => exact absurd e (by show h2.1 ≠ h2.1 + 1; omega)
          | 2, 0, _, _ => exact absurd e (by show h2.1 ≠ h2.1 + 1 + 1; omega)
          | 2, 1, _, _ => exact absurd e (by show h2.1 + 1 ≠ h2.1 + 1 + 1; omega)
          | 3, 0, _, _ => exact absurd e (by show h2.1 ≠ eB; omega)
          | 3, 1, _, _ => exact absurd e (by show h2.1 + 1 ≠ eB; omega)
          | 3, 2, _, _ => exact absurd e (by show h2.1 + 1 + 1 ≠ eB; omega)
        · match i, hi with
          | 0, _ => have e : e' = h2.1 := e; omega
          | 1, _ => have e : e' = h2.1 + 1 := e; omega
          | 2, _ => have e : e' = h2.1 + 1 + 1 := e; omega
          | 3, _ => have e : e' = eB := e; omega
      refine ih (j + 1) _ h5 _ _ _ _ (by omega) (by omega) ?_ W5 J5 (fun i hi => ?_) x5 (by omega) (by omega) (by omega)
      · exact (yd_A.lo (by omega) (by omega)).trans p0
      · by_cases q : i = 5
        · subst q; rw [yd_A.e5]; exact e5
        · by_cases q2 : i < 7 + 4 * j
          · rw [yd_A.lo q q2]
            have := p3 i q2
            omega
          · obtain ⟨i', rfl⟩ : ∃ i', i = 7 + 4 * j + i' := ⟨i - (7 + 4 * j), by omega⟩
            rw [yd_A.hi]
            have hi' : i' < 4 := by omega
            match i', hi' with
            | 0, _ => show h2.1 < _; omega
            | 1, _ => show h2.1 + 1 < _; omega
            | 2, _ => show h2.1 + 1 + 1 < _; omega
            | 3, _ => show eB < _; omega
  have hKE : co_W K h1 := hK.x hG x1
  have W0 : yd_W K h1 (fun i => match i with
    | 0 => h.1
    | 1 => h.1 + 1
    | 2 => h.1 + 1 + 1
    | 3 => h.1 + 1 + 2
    | 4 => h.1 + 1 + 3
    | _ => co_E K) (yd_c f ct cs 0 0) := ⟨a2, al_W.emp hKE a3, fun k hk => absurd hk (Nat.not_lt_zero _), ⟨fun _ => 0, al_W.emp hKE a4, fun k hk => absurd hk (Nat.not_lt_zero _)⟩, ⟨ct, a5, fun j hj => by
      unfold yd_c
      rw [if_neg (by omega), if_neg (by omega), if_neg (by omega), if_pos (by omega), show 5 + j - 5 = j by omega]⟩, ⟨cs, a7, fun j hj => by
      unfold yd_c
      rw [if_neg (by omega), if_neg (by omega), if_neg (by omega), if_neg (by omega), if_pos (by omega), show 17 + j - 17 = j by omega]⟩, hD _ (by show _ ≤ h.1 + 1 + 2; omega), hD _ (by show _ ≤ h.1 + 1 + 3; omega)⟩
  refine hulls (f 0).toNat 0 _ h1 _ _ _ _ (by omega) rfl rfl W0 ⟨fun i j hij hj e => ?_, fun i hi => ?_⟩ (fun i hi => ?_) x1 (by omega) (by omega) (by omega)
  · have hj : j < 7 := by omega
    match j, i, hj, hij with
    | 1, 0, _, _ => exact absurd e (by show h.1 ≠ h.1 + 1; omega)
    | 2, 0, _, _ => exact absurd e (by show h.1 ≠ h.1 + 1 + 1; omega)
    | 2, 1, _, _ => exact absurd e (by show h.1 + 1 ≠ h.1 + 1 + 1; omega)
    | 3, 0, _, _ => exact absurd e (by show h.1 ≠ h.1 + 1 + 2; omega)
    | 3, 1, _, _ => exact absurd e (by show h.1 + 1 ≠ h.1 + 1 + 2; omega)
    | 3, 2, _, _ => exact absurd e (by show h.1 + 1 + 1 ≠ h.1 + 1 + 2; omega)
    | 4, 0, _, _ => exact absurd e (by show h.1 ≠ h.1 + 1 + 3; omega)
    | 4, 1, _, _ => exact absurd e (by show h.1 + 1 ≠ h.1 + 1 + 3; omega)
    | 4, 2, _, _ => exact absurd e (by show h.1 + 1 + 1 ≠ h.1 + 1 + 3; omega)
    | 4, 3, _, _ => exact absurd e (by show h.1 + 1 + 2 ≠ h.1 + 1 + 3; omega)
    | 5, i, _, _ => exact e
    | 6, i, _, _ => exact e
  · have hi : i < 7 := by omega
    match i, hi with
    | 0, _ => exact Or.inl (Nat.le_refl _)
    | 1, _ => exact Or.inl (by show _ ≤ h.1 + 1; omega)
    | 2, _ => exact Or.inl (by show _ ≤ h.1 + 1 + 1; omega)
    | 3, _ => exact Or.inl (by show _ ≤ h.1 + 1 + 2; omega)
    | 4, _ => exact Or.inl (by show _ ≤ h.1 + 1 + 3; omega)
    | 5, _ => exact Or.inr rfl
    | 6, _ => exact Or.inr rfl
  · have hi : i < 7 := by omega
    match i, hi with
    | 0, _ => show h.1 < _; omega
    | 1, _ => show h.1 + 1 < _; omega
    | 2, _ => show h.1 + 1 + 1 < _; omega
    | 3, _ => show h.1 + 1 + 2 < _; omega
    | 4, _ => show h.1 + 1 + 3 < _; omega
    | 5, _ => show co_E K < _; omega
    | 6, _ => show co_E K < _; omega
end COPY
