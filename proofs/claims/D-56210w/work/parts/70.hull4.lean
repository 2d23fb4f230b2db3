set_option maxRecDepth 100000
section HULL4
variable {G : pb_G} {K : co_K} {h : pb_H} {B : Nat → Nat} {k : Nat} {f : Nat → Int} {o : Nat}
/-- new Hull(k) -/
theorem hu_init2 (hG : co_G G K) (hK : co_W K h) (hb : h.2 o = some (pb_ob 5 [pb_i 0, pb_0, pb_0, pb_0, pb_i 0, pb_i 0])) (hz : ∀ j, j < 28 → f (21 + 28 * k + j) = 0) (hD : co_D K (h.1 + 1)) : pb_Ctr G mX6_init_2 4 2 11 [pb_r o, pb_i k] h (fun oc h' => oc = .inl none ∧ h'.1 = h.1 + 2 ∧ hu_W K h' (hu_B o h.1 (h.1 + 1) (co_E K)) k f ∧ ∀ b, b ≠ o → b < h.1 → h'.2 b = h.2 b) := by
  have z0 := hz 0 (by omega)
  have z1 := hz 1 (by omega)
  have z2 := hz 2 (by omega)
  have z3 := hz 3 (by omega)
  rw [show 21 + 28 * k + 0 = 21 + 28 * k by omega] at z0
  rw [show 21 + 28 * k + 1 = 22 + 28 * k by omega] at z1
  rw [show 21 + 28 * k + 2 = 23 + 28 * k by omega] at z2
  rw [show 21 + 28 * k + 3 = 24 + 28 * k by omega] at z3
  have hn0 : ya_n f k = 0 := by unfold ya_n; rw [z1]; rfl
  refine pb_Ctr.of rfl rfl rfl tX6_init_2_ok rfl ?_
  (try refine pb_Ex.run rfl ?_)
  refine pb_Ex.fin (fun hf => ?_)
  have hol := hf _ _ hb
  refine pb_Ex.objI rfl rfl rfl (by omega) ?_
  refine pb_Ex.run rfl ?_
  refine pb_Ex.new 12 3 RJ2 TJ2 [pb_i 0, pb_0, pb_i 0] rfl rfl rfl rfl (fun j hj => by
    have hj : j < 3 := hj
    match j, hj with
    | 0, _ => rfl
    | 1, _ => rfl
    | 2, _ => rfl) (by omega) (by omega) ?_
  refine pb_Ex.run rfl ?_
  refine pb_Ex.cIo rfl rfl rfl rfl (ja_init hG pb_new_same) (by omega) (by omega) (by omega) (fun h1 e1 => ?_)
  obtain ⟨e2, e3, e4⟩ := e1
  have e2 : h1.1 = h.1 + 1 := e2
  have e5 : ∀ b, b ≠ h.1 → h1.2 b = h.2 b := fun b hb => by rw [e4 b hb, pb_new_ne hb]
  have hb1 : h1.2 o = some (pb_ob 5 [pb_i 0, pb_0, pb_0, pb_0, pb_i 0, pb_i 0]) := by rw [e5 _ (by omega)]; exact hb
  refine pb_Ex.putfF rfl rfl (hb1) (Or.inl rfl) (fun r hr => by cases hr; rfl) rfl (by first | trivial | exact Or.inl rfl | exact Or.inr rfl | (show _ ∨ _; omega) | (show _ ∧ _; omega)) ?_
  (try refine pb_Ex.run rfl ?_)
  refine pb_Ex.newI 8 rfl rfl (by omega) (by omega) (by omega) ?_
  have hb2 : (pb_new (pb_set h1 o (pb_ob 5 ([pb_i 0, pb_0, pb_0, pb_0, pb_i 0, pb_i 0].set 1 (pb_r h.1)))) (pb_aI 0 8 (fun _ => 0))).2 o = some (pb_ob 5 [pb_i 0, pb_r h.1, pb_0, pb_0, pb_i 0, pb_i 0]) := by
    rw [pb_new_ne (by show o ≠ h1.1; omega), pb_set_same]
    rfl
  refine pb_Ex.putfF rfl rfl (hb2) (Or.inl rfl) (fun r hr => by cases hr; rfl) rfl (by first | trivial | exact Or.inl rfl | exact Or.inr rfl | (show _ ∨ _; omega) | (show _ ∧ _; omega)) ?_
  (try refine pb_Ex.run rfl ?_)
  refine pb_Ex.gets rfl (hG.2.2.2.2.1 0 (by omega)).1 q430 ?_
  refine pb_Ex.putf rfl rfl (pb_set_same) rfl rfl (by first | trivial | exact Or.inl rfl | exact Or.inr rfl | (show _ ∨ _; omega) | (show _ ∧ _; omega)) ?_
  (try refine pb_Ex.run rfl ?_)
  have fin : ∀ (d j : Nat) (z : Int) (h2 : pb_H) (c : Nat → Int), j + d = 8 → z = j → h2.1 = h.1 + 2 → h2.2 o = some (pb_ob 5 [pb_i 0, pb_r h.1, pb_r (h.1 + 1), pb_r (co_st K 0), pb_i 0, pb_i 0]) → h2.2 h.1 = some (pb_ob 12 [pb_i 0, pb_r (co_E K), pb_i 0]) → h2.2 (h.1 + 1) = some (pb_aI 0 8 c) → (∀ i, i < j → c i = 9) → (∀ b, b ≠ o → b < h.1 → h2.2 b = h.2 b) → pb_Ex G mX6_init_2 4 2 11 (fun oc h' => oc = .inl none ∧ h'.1 = h.1 + 2 ∧ hu_W K h' (hu_B o h.1 (h.1 + 1) (co_E K)) k f ∧ ∀ b, b ≠ o → b < h.1 → h'.2 b = h.2 b) 2 11 32 [some (pb_r o), some (pb_i k), some (pb_i z)] [] h2 := by
    intro d
    induction d with
    | zero =>
      intro j z h2 c hj hz q1 q2 q3 q4 q5 q6
      have e : j = 8 := by omega
      subst e
      refine pb_Ex.run rfl ?_
      refine pb_Ex.icmpT rfl (by omega) (by omega) (by first | decide | (simp only [pb_cmp]; omega) | simp [pb_cmp]) ?_
      (try refine pb_Ex.run rfl ?_)
      refine pb_Ex.putfF rfl rfl (q2) (Or.inl rfl) (fun r hr => by cases hr; rfl) rfl (by first | trivial | exact Or.inl rfl | exact Or.inr rfl | (show _ ∨ _; omega) | (show _ ∧ _; omega)) ?_
      (try refine pb_Ex.run rfl ?_)
      have hEl : co_E K < h.1 := by obtain ⟨q, hq⟩ := hK.1; exact hf _ _ hq
      obtain ⟨q0, hq0⟩ := hK.1
      have hEo : co_E K ≠ o := fun z => by rw [z, hb] at hq0; cases hq0
      refine pb_Ex.vret rfl rfl (by omega) (by omega) (⟨rfl, q1, ⟨?_, ⟨fun _ => 0, ⟨0, 0, q0, ?_, ?_, by omega, Or.inl rfl, ⟨fun _ => rfl, fun _ => rfl⟩, fun i hi => by omega⟩, fun i hi => by omega⟩, ⟨c, ?_, fun i hi => ?_⟩, hD⟩, fun b b1 b2 => by rw [pb_set_ne b1]; exact q6 b b1 b2⟩)
      · show (pb_set h2 o _).2 o = _
        rw [pb_set_same, z0, z2, z3]
        rfl
      · show (pb_set h2 o _).2 h.1 = _
        rw [pb_set_ne (by omega), q3, hn0]
        rfl
      · show (pb_set h2 o _).2 (co_E K) = _
        rw [pb_set_ne hEo, q6 _ hEo hEl]
        exact hq0
      · show (pb_set h2 o _).2 (h.1 + 1) = _
        rw [pb_set_ne (by omega)]
        exact q4
      · rw [q5 i hi, if_neg (by unfold ya_se; omega)]
    | succ d ih =>
      intro j z h2 c hj hz q1 q2 q3 q4 q5 q6
      subst hz
      refine pb_Ex.run rfl ?_
      refine pb_Ex.icmpF rfl (by omega) (by omega) (by first | decide | (simp only [pb_cmp]; omega) | simp [pb_cmp]) ?_
      (try refine pb_Ex.run rfl ?_)
      refine pb_Ex.getf rfl rfl q2 rfl ?_
      (try refine pb_Ex.run rfl ?_)
      refine pb_Ex.istat (j) rfl (q4) (by omega) (by omega) ?_
      (try refine pb_Ex.run rfl ?_)
      refine ih (j + 1) _ _ (va_up c j 9) (by omega) (by omega) q1 (by rw [pb_set_ne (by omega)]; exact q2) (by rw [pb_set_ne (by omega)]; exact q3) pb_set_same (fun i hi => ?_) (fun b b1 b2 => by rw [pb_set_ne (by omega)]; exact q6 b b1 b2)
      by_cases c1 : i = j
      · subst c1; exact va_upS _ _ _
      · rw [va_upN _ _ c1]; exact q5 i (by omega)
  refine fin 8 0 0 _ (fun _ => 0) (by omega) rfl ?_ ?_ ?_ ?_ (fun i hi => absurd hi (Nat.not_lt_zero _)) (fun b b1 b2 => ?_)
  · show h1.1 + 1 = _
    omega
  · rw [pb_set_same]
    show some (pb_ob 5 [pb_i 0, pb_r h.1, pb_r h1.1, pb_r (co_st K 0), pb_i 0, pb_i 0]) = _
    rw [e2]
  · rw [pb_set_ne (by omega), pb_set_ne (by omega), pb_new_ne (by show h.1 ≠ h1.1; omega), pb_set_ne (by omega)]
    exact e3
  · rw [pb_set_ne (by omega), pb_set_ne (by omega), ← e2]
    exact pb_new_same
  · rw [pb_set_ne b1, pb_set_ne b1, pb_new_ne (by show b ≠ h1.1; omega), pb_set_ne b1, e5 _ (by omega)]
/-- new Hull(of) -/
theorem hu_init {A : Nat → Nat} (hG : co_G G K) (hK : co_W K h) (hb : h.2 o = some (pb_ob 5 [pb_i 0, pb_0, pb_0, pb_0, pb_i 0, pb_i 0])) (hW : hu_W K h A k f) (ok : hu_ok f k) (hD : co_D K (h.1 + 1)) : pb_Ctr G mX6_init 8 10 131 [pb_r o, pb_r (A 0)] h (fun oc h' => oc = .inl none ∧ h.1 + 2 ≤ h'.1 ∧ h'.1 ≤ h.1 + 10 ∧ (∃ e, hu_W K h' (hu_B o h.1 (h.1 + 1) e) k f ∧ (e = co_E K ∨ h.1 + 2 ≤ e)) ∧ fr_P (fun b _ => b ≠ o) h h') := by
  have hn := ok.nn
  obtain ⟨l1, ⟨g, l2, l3⟩, ⟨ca, l4, l6⟩, l5⟩ := hW
  obtain ⟨mcA, capA, qA, a1, a2, -⟩ := id l2
  have n0 : A 0 ≠ o := fun z => by rw [z, hb] at l1; cases l1
  have n1 : A 1 ≠ o := fun z => by rw [z, hb] at a1; cases a1
  have n2 : A 2 ≠ o := fun z => by rw [z, hb] at l4; cases l4
  have n3 : A 3 ≠ o := fun z => by rw [z, hb] at a2; cases a2
  have n4 : ∀ j, j < ya_n f k → g j ≠ o := fun j hj z => by have := l3 j hj; rw [z, hb] at this; cases this
  refine pb_Ctr.of rfl rfl rfl tX6_init_ok rfl ?_
  (try refine pb_Ex.run rfl ?_)
  refine pb_Ex.fin (fun hf => ?_)
  refine pb_Ex.own hb rfl (fun hob => ?_)
  have hol := hf _ _ hb
  obtain ⟨qE, hqE⟩ := id hK.1
  have hEl : co_E K < h.1 := hf _ _ hqE
  have hEo : co_E K ≠ o := fun z => by rw [z, hb] at hqE; cases hqE
  refine pb_Ex.getf rfl rfl l1 rfl ?_
  (try refine pb_Ex.run rfl ?_)
  refine pb_Ex.cIo rfl rfl rfl rfl (hu_init2 (k := k) (f := fun i => if 21 + 28 * k ≤ i ∧ i < 49 + 28 * k then 0 else f i) hG hK hb (fun j hj => if_pos (by omega)) hD) (by omega) (by omega) (by omega) (fun h1 e1 => ?_)
  obtain ⟨e2, ⟨m1, ⟨g0, m2, m3⟩, ⟨c0, m4, m6⟩, m5⟩, e4⟩ := e1
  refine pb_Ex.run rfl ?_
  have hn0 : ya_n (fun i => if 21 + 28 * k ≤ i ∧ i < 49 + 28 * k then 0 else f i) k = 0 := by unfold ya_n; dsimp only; rw [if_pos (by omega)]; rfl
  rw [hn0] at m2
  simp only [if_pos (show 21 + 28 * k ≤ 21 + 28 * k ∧ 21 + 28 * k < 49 + 28 * k by omega), if_pos (show 21 + 28 * k ≤ 23 + 28 * k ∧ 23 + 28 * k < 49 + 28 * k by omega), if_pos (show 21 + 28 * k ≤ 24 + 28 * k ∧ 24 + 28 * k < 49 + 28 * k by omega)] at m1
  have loop : ∀ (d j : Nat) (z : Int) (h2 : pb_H) (e : Nat) (g2 : Nat → Nat) (y : Option pb_V) (cc uu : Nat), j + d = ya_n f k → z = j → h.1 + 2 ≤ h2.1 → h2.1 ≤ h.1 + 2 + j → h2.2 o = some (pb_ob 5 [pb_i k, pb_r h.1, pb_r (h.1 + 1), pb_r (co_st K 0), pb_i 0, pb_i 0]) → al_W K h2 h.1 e j g2 → (∀ i, i < j → g2 i = g i) → h2.2 (h.1 + 1) = some (pb_aI 0 8 c0) → (e = co_E K ∨ h.1 + 2 ≤ e) → fr_P (fun b _ => b ≠ o) h h2 → cc + d ≤ 10 → uu + 15 * d ≤ 131 → pb_Ex G mX6_init 8 10 131 (fun oc h' => oc = .inl none ∧ h.1 + 2 ≤ h'.1 ∧ h'.1 ≤ h.1 + 10 ∧ (∃ e, hu_W K h' (hu_B o h.1 (h.1 + 1) e) k f ∧ (e = co_E K ∨ h.1 + 2 ≤ e)) ∧ fr_P (fun b _ => b ≠ o) h h') cc uu 10 [some (pb_r o), some (pb_r (A 0)), some (pb_i z), y] [] h2 := by
    intro d
    induction d with
    | zero =>
      intro j z h2 e g2 y cc uu hj hz p1 p2 p3 p4 p5 p6 p7 p8 hc hu
      have ej : j = ya_n f k := by omega
      subst ej
      have old : ∀ b c, h.2 b = some c → b ≠ o → h2.2 b = some c := p8.2
      have l2' : al_W K h2 (A 1) (A 3) (ya_n f k) g := l2.fr p8 (fun _ _ => n1) (fun _ _ => n3) (fun j hj _ _ _ => n4 j hj)
      obtain ⟨mc2, ho2⟩ := l2'.obj
      refine pb_Ex.run rfl ?_
      refine pb_Ex.getf rfl rfl (old _ _ l1 n0) rfl ?_
      (try refine pb_Ex.run rfl ?_)
      refine pb_Ex.pV rfl rfl rfl rfl (ho2) rfl rfl (ja_size l2') (by omega) (by omega) (by omega) ?_
      (try refine pb_Ex.run rfl ?_)
      refine pb_Ex.icmpT rfl (by omega) (by omega) (by first | decide | (simp only [pb_cmp]; omega) | simp [pb_cmp]) ?_
      (try refine pb_Ex.run rfl ?_)
      refine pb_Ex.getf rfl rfl (old _ _ l1 n0) rfl ?_
      (try refine pb_Ex.run rfl ?_)
      refine pb_Ex.getf rfl rfl p3 rfl ?_
      (try refine pb_Ex.run rfl ?_)
      refine pb_Ex.acpI 0 0 8 rfl rfl (old _ _ l4 n2) p6 rfl rfl rfl (by omega) (by omega) rfl (by omega) ?_
      refine pb_Ex.run rfl ?_
      have w1 : (pb_set h2 (h.1 + 1) (pb_aI 0 8 (va_cpy ca c0 0 0 8))).2 (A 0) = some (pb_ob 5 [pb_i k, pb_r (A 1), pb_r (A 2), pb_r (co_st K (f (21 + 28 * k)).toNat), pb_i (f (23 + 28 * k)), pb_i (f (24 + 28 * k))]) := by
        have := hf _ _ l1
        rw [pb_set_ne (by omega)]
        exact old _ _ l1 n0
      refine pb_Ex.getf rfl rfl w1 rfl ?_
      (try refine pb_Ex.run rfl ?_)
      have w2 : (pb_set h2 (h.1 + 1) (pb_aI 0 8 (va_cpy ca c0 0 0 8))).2 o = some (pb_ob 5 [pb_i k, pb_r h.1, pb_r (h.1 + 1), pb_r (co_st K 0), pb_i 0, pb_i 0]) := by rw [pb_set_ne (by omega)]; exact p3
      refine pb_Ex.putf rfl rfl (w2) rfl rfl (by first | trivial | exact Or.inl rfl | exact Or.inr rfl | (show _ ∨ _; omega) | (show _ ∧ _; omega)) ?_
      (try refine pb_Ex.run rfl ?_)
      refine pb_Ex.getf rfl rfl ((pb_set_ne n0).trans w1) rfl ?_
      (try refine pb_Ex.run rfl ?_)
      refine pb_Ex.putf rfl rfl (pb_set_same) rfl rfl (by first | trivial | exact Or.inl rfl | exact Or.inr rfl | (show _ ∨ _; omega) | (show _ ∧ _; omega)) ?_
      (try refine pb_Ex.run rfl ?_)
      refine pb_Ex.getf rfl rfl ((pb_set_ne n0).trans ((pb_set_ne n0).trans w1)) rfl ?_
      (try refine pb_Ex.run rfl ?_)
      refine pb_Ex.putf rfl rfl (pb_set_same) rfl rfl (by first | trivial | exact Or.inl rfl | exact Or.inr rfl | (show _ ∨ _; omega) | (show _ ∧ _; omega)) ?_
      (try refine pb_Ex.run rfl ?_)
      obtain ⟨mc3, cap3, q3, r1, r2, r3, r4, r5, r6⟩ := p4
      have ne : e ≠ o := fun z => by rw [z, p3] at r2; cases r2
      have ne2 : e ≠ h.1 + 1 := fun z => by rw [z, p6] at r2; cases r2
      refine pb_Ex.vret rfl rfl (by omega) (by omega) ⟨rfl, by show h.1 + 2 ≤ h2.1; omega, by show h2.1 ≤ h.1 + 10; omega, ⟨e, ⟨?_, ⟨g, ⟨mc3, cap3, q3, ?_, ?_, r3, r4, r5, fun i hi => ?_⟩, fun i hi => ?_⟩, ⟨va_cpy ca c0 0 0 8, ?_, fun i hi => ?_⟩, hD⟩, p7⟩, ⟨by show h.1 ≤ h2.1; omega, fun b c b2 b1 => ?_⟩⟩
      · show (pb_set _ o _).2 o = _
        rw [pb_set_same]
        rfl
      · show (pb_set _ o _).2 h.1 = _
        rw [pb_set_ne (by omega), pb_set_ne (by omega), pb_set_ne (by omega), pb_set_ne (by omega)]
        exact r1
      · show (pb_set _ o _).2 e = _
        rw [pb_set_ne ne, pb_set_ne ne, pb_set_ne ne, pb_set_ne ne2]
        exact r2
      · have q9 := l3 i hi
        have q8 := hf _ _ q9
        refine ⟨by rw [(r6 i hi).1, p5 i hi], 6, [pb_i (f (25 + 28 * k + 2 * i + 0)), pb_i (f (25 + 28 * k + 2 * i + 1))], by decide, ?_⟩
        show (pb_set _ o _).2 (g i) = _
        rw [pb_set_ne (n4 i hi), pb_set_ne (n4 i hi), pb_set_ne (n4 i hi), pb_set_ne (by omega), old _ _ q9 (n4 i hi)]
      · have q9 := l3 i hi
        have q8 := hf _ _ q9
        show (pb_set _ o _).2 (g i) = _
        rw [pb_set_ne (n4 i hi), pb_set_ne (n4 i hi), pb_set_ne (n4 i hi), pb_set_ne (by omega), old _ _ q9 (n4 i hi)]
      · show (pb_set _ o _).2 (h.1 + 1) = _
        rw [pb_set_ne (by omega), pb_set_ne (by omega), pb_set_ne (by omega), pb_set_same]
      · unfold va_cpy
        rw [if_pos (by omega), show 0 + (i - 0) = i by omega]
        exact l6 i hi
      · have := hf _ _ b2
        rw [pb_set_ne b1, pb_set_ne b1, pb_set_ne b1, pb_set_ne (by omega)]
        exact old b c b2 b1
    | succ d ih =>
      intro j z h2 e g2 y cc uu hj hz p1 p2 p3 p4 p5 p6 p7 p8 hc hu
      subst hz
      have old : ∀ b c, h.2 b = some c → b ≠ o → h2.2 b = some c := p8.2
      have l2' : al_W K h2 (A 1) (A 3) (ya_n f k) g := l2.fr p8 (fun _ _ => n1) (fun _ _ => n3) (fun j hj _ _ _ => n4 j hj)
      have l3' := old _ _ (l3 j (by omega)) (n4 j (by omega))
      have hK2 : co_W K h2 := hK.lo hG p8 (fun b c hb hc => by omega)
      obtain ⟨mc2, ho2⟩ := l2'.obj
      refine pb_Ex.run rfl ?_
      refine pb_Ex.getf rfl rfl (old _ _ l1 n0) rfl ?_
      (try refine pb_Ex.run rfl ?_)
      refine pb_Ex.pV rfl rfl rfl rfl (ho2) rfl rfl (ja_size l2') (by omega) (by omega) (by omega) ?_
      (try refine pb_Ex.run rfl ?_)
      refine pb_Ex.icmpF rfl (by omega) (by omega) (by first | decide | (simp only [pb_cmp]; omega) | simp [pb_cmp]) ?_
      (try refine pb_Ex.run rfl ?_)
      refine pb_Ex.getf rfl rfl p3 rfl ?_
      (try refine pb_Ex.run rfl ?_)
      refine pb_Ex.getf rfl rfl (old _ _ l1 n0) rfl ?_
      (try refine pb_Ex.run rfl ?_)
      refine pb_Ex.pV rfl rfl rfl rfl (ho2) rfl rfl (ja_get l2' j (by omega)) (by omega) (by omega) (by omega) ?_
      (try refine pb_Ex.run rfl ?_)
      refine pb_Ex.cast0 rfl rfl (l3') (fun r hr => by cases hr; rfl) ?_
      (try refine pb_Ex.run rfl ?_)
      obtain ⟨mc3, ho3⟩ := p4.obj
      refine pb_Ex.cV rfl rfl rfl rfl ho3 rfl rfl (ja_add hG hK2 p4 (by omega) l3' (by decide)) ⟨by omega, by omega, by omega⟩ (fun v h3 hq => ?_) (fun E q9 h2 hq => by cases hq.1)
      obtain ⟨d1, e', d2, d3, d4, d5, d6⟩ := hq
      cases d1
      (try refine pb_Ex.run rfl ?_)
      have ne : e ≠ o := fun z => by obtain ⟨mc4, cap4, q4, r1, r2, -⟩ := p4; rw [z, p3] at r2; cases r2
      have ne2 : e ≠ h.1 + 1 := fun z => by obtain ⟨mc4, cap4, q4, r1, r2, -⟩ := p4; rw [z, p6] at r2; cases r2
      have keep : ∀ b c, h2.2 b = some c → b ≠ h.1 → b ≠ e ∨ b = co_E K → h3.2 b = some c := fun b c hb x1 x2 => d6.2 b c hb ⟨x1, x2⟩
      have hge := d6.1
      refine ih (j + 1) _ h3 e' (va_up g2 j (g j)) _ _ _ (by omega) (by omega) (by omega) (by omega) (keep _ _ p3 (by omega) (Or.inl (Ne.symm ne))) d2 (fun i hi => ?_) (keep _ _ p6 (by omega) (Or.inl (Ne.symm ne2))) ?_ ⟨by omega, fun b c b2 b1 => ?_⟩ (by omega) (by omega)
      · by_cases c1 : i = j
        · subst c1; exact va_upS _ _ _
        · rw [va_upN _ _ c1]; exact p5 i (by omega)
      · rcases d3 with d3 | d3
        · rcases p7 with p7 | p7
          · exact absurd (d3.trans p7) d4
          · exact Or.inr (by omega)
        · exact Or.inr (by omega)
      · have := hf _ _ b2
        refine keep b c (old b c b2 b1) (by omega) ?_
        rcases p7 with p7 | p7
        · by_cases c1 : b = e
          · exact Or.inr (c1.trans p7)
          · exact Or.inl c1
        · exact Or.inl (by omega)
  exact loop (ya_n f k) 0 0 h1 _ _ none _ _ (by omega) rfl (by omega) (by omega) m1 m2 (fun i hi => absurd hi (Nat.not_lt_zero _)) m4 (Or.inl rfl) ⟨by omega, fun b c b2 b1 => by rw [e4 b b1 (hf _ _ b2)]; exact b2⟩ (by omega) (by omega)
end HULL4
