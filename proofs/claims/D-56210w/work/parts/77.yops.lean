set_option maxRecDepth 100000
/-! THE YARD'S OPERATIONS, done on a copy (addresses from lo on) -/
def yd_Q (K : co_K) (h : pb_H) (A : Nat → Nat) (lo : Nat) (ex : Int → String) (r : Int × Int × (Nat → Int)) : pb_O → pb_H → Prop := fun oc h' => fr_P (fun b _ => b < lo) h h' ∧ ((r.1 = 0 ∧ oc = .inl (some (pb_i r.2.1)) ∧ ∃ A', A' 0 = A 0 ∧ yd_W K h' A' r.2.2 ∧ yd_J K A' (r.2.2 0).toNat lo) ∨ (r.1 ≠ 0 ∧ ∃ q, oc = .inr (ex r.1, q)))
theorem yd_Q.ok {K : co_K} {h h' : pb_H} {A A' : Nat → Nat} {lo : Nat} {ex : Int → String} {a : Int} {f' : Nat → Int} (hx : fr_P (fun b _ => b < lo) h h') (h0 : A' 0 = A 0) (hW : yd_W K h' A' f') (hJ : yd_J K A' (f' 0).toNat lo) : yd_Q K h A lo ex (0, a, f') (.inl (some (pb_i a))) h' := ⟨hx, Or.inl ⟨rfl, rfl, A', h0, hW, hJ⟩⟩
theorem yd_Q.no {K : co_K} {h h' : pb_H} {A : Nat → Nat} {lo q : Nat} {ex : Int → String} {c a : Int} {f' : Nat → Int} (hx : fr_P (fun b _ => b < lo) h h') (hc : c ≠ 0) : yd_Q K h A lo ex (c, a, f') (.inr (ex c, q)) h' := ⟨hx, Or.inr ⟨hc, q, rfl⟩⟩
theorem ar_1 {v1 : Int} (h1 : v1 = 0 ∨ v1 = 1) : (∀ j, j < 1 → va_up (fun _ => (0 : Int)) 0 v1 j = 0 ∨ va_up (fun _ => (0 : Int)) 0 v1 j = 1) ∧ ((∀ j, j < 1 → va_up (fun _ => (0 : Int)) 0 v1 j = 1) ↔ v1 = 1) := by
  have e0 : va_up (fun _ => (0 : Int)) 0 v1 0 = v1 := rfl
  refine ⟨fun j hj => ?_, fun q => by have := q 0 (by omega); omega, fun q j hj => ?_⟩ <;> (have hj : j = 0 := by omega) <;> subst hj <;> omega
theorem ar_2 {v1 v2 : Int} (h1 : v1 = 0 ∨ v1 = 1) (h2 : v2 = 0 ∨ v2 = 1) : (∀ j, j < 2 → va_up (va_up (fun _ => (0 : Int)) 0 v1) 1 v2 j = 0 ∨ va_up (va_up (fun _ => (0 : Int)) 0 v1) 1 v2 j = 1) ∧ ((∀ j, j < 2 → va_up (va_up (fun _ => (0 : Int)) 0 v1) 1 v2 j = 1) ↔ v1 = 1 ∧ v2 = 1) := by
  have e0 : va_up (va_up (fun _ => (0 : Int)) 0 v1) 1 v2 0 = v1 := rfl
  have e1 : va_up (va_up (fun _ => (0 : Int)) 0 v1) 1 v2 1 = v2 := rfl
  refine ⟨fun j hj => ?_, fun q => ⟨by have := q 0 (by omega); omega, by have := q 1 (by omega); omega⟩, fun q j hj => ?_⟩ <;> (have hj : j = 0 ∨ j = 1 := by omega) <;> rcases hj with rfl | rfl <;> omega
theorem ar_3 {v1 v2 v3 : Int} (h1 : v1 = 0 ∨ v1 = 1) (h2 : v2 = 0 ∨ v2 = 1) (h3 : v3 = 0 ∨ v3 = 1) : (∀ j, j < 3 → va_up (va_up (va_up (fun _ => (0 : Int)) 0 v1) 1 v2) 2 v3 j = 0 ∨ va_up (va_up (va_up (fun _ => (0 : Int)) 0 v1) 1 v2) 2 v3 j = 1) ∧ ((∀ j, j < 3 → va_up (va_up (va_up (fun _ => (0 : Int)) 0 v1) 1 v2) 2 v3 j = 1) ↔ v1 = 1 ∧ v2 = 1 ∧ v3 = 1) := by
  have e0 : va_up (va_up (va_up (fun _ => (0 : Int)) 0 v1) 1 v2) 2 v3 0 = v1 := rfl
  have e1 : va_up (va_up (va_up (fun _ => (0 : Int)) 0 v1) 1 v2) 2 v3 1 = v2 := rfl
  have e2 : va_up (va_up (va_up (fun _ => (0 : Int)) 0 v1) 1 v2) 2 v3 2 = v3 := rfl
  refine ⟨fun j hj => ?_, fun q => ⟨by have := q 0 (by omega); omega, by have := q 1 (by omega); omega, by have := q 2 (by omega); omega⟩, fun q j hj => ?_⟩ <;> (have hj : j = 0 ∨ j = 1 ∨ j = 2 := by omega) <;> rcases hj with rfl | rfl | rfl <;> omega
section OPS
variable {G : pb_G} {K : co_K} {h : pb_H} {A : Nat → Nat} {f : Nat → Int} {t lo : Nat}
theorem yd_E (hK : co_W K h) (hW : yd_W K h A f) : ∀ i, i < 5 → A i ≠ co_E K := by
  obtain ⟨q, hq⟩ := hK.1
  obtain ⟨k1, ⟨_, _, _, k2, -⟩, k3, ⟨g, ⟨_, _, _, k4, -⟩, k5⟩, ⟨c, k6, k7⟩, ⟨c2, k8, k9⟩, k10, k11⟩ := hW
  intro i hi e
  match i, hi with
  | 0, _ => rw [e, hq] at k1; cases k1
  | 1, _ => rw [e, hq] at k2; cases k2
  | 2, _ => rw [e, hq] at k4; cases k4
  | 3, _ => rw [e, hq] at k6; cases k6
  | 4, _ => rw [e, hq] at k8; cases k8
theorem hu_E {B : Nat → Nat} {k : Nat} (hK : co_W K h) (hW : hu_W K h B k f) : ∀ i, i < 3 → B i ≠ co_E K := by
  obtain ⟨q, hq⟩ := hK.1
  obtain ⟨k1, ⟨g, ⟨_, _, _, k2, -⟩, -⟩, ⟨c2, k4, -⟩, -⟩ := hW
  intro i hi e
  match i, hi with
  | 0, _ => rw [e, hq] at k1; cases k1
  | 1, _ => rw [e, hq] at k2; cases k2
  | 2, _ => rw [e, hq] at k4; cases k4
theorem yd_ge (hJ : yd_J K A (f 0).toNat lo) {i : Nat} (hi : i < 7 + 4 * (f 0).toNat) (hE : A i ≠ co_E K) : lo ≤ A i := by
  rcases hJ.2 i hi with z | z
  · exact z
  · exact absurd z hE
theorem yd_lt (hf : fr_fin h) (hW : yd_W K h A f) : ∀ i, i < 7 + 4 * (f 0).toNat → A i < h.1 := by
  obtain ⟨k1, ⟨_, _, _, k2, k2', -⟩, k3, ⟨g, ⟨_, _, _, k4, k4', -⟩, k5⟩, ⟨c, k6, k7⟩, ⟨c2, k8, k9⟩, k10, k11⟩ := hW
  intro i hi
  by_cases c7 : i < 7
  · match i, c7 with
    | 0, _ => exact hf _ _ k1
    | 1, _ => exact hf _ _ k2
    | 2, _ => exact hf _ _ k4
    | 3, _ => exact hf _ _ k6
    | 4, _ => exact hf _ _ k8
    | 5, _ => exact hf _ _ k2'
    | 6, _ => exact hf _ _ k4'
  · obtain ⟨k, i', hk, hi', e⟩ : ∃ k i', k < (f 0).toNat ∧ i' < 4 ∧ i = 7 + 4 * k + i' := ⟨(i - 7) / 4, (i - 7) % 4, by omega, by omega, by omega⟩
    subst e
    obtain ⟨m1, ⟨g, ⟨_, _, _, m2, m3, -⟩, -⟩, ⟨c2, m4, -⟩, -⟩ := k3 k hk
    match i', hi' with
    | 0, _ => exact hf _ _ m1
    | 1, _ => exact hf _ _ m2
    | 2, _ => exact hf _ _ m4
    | 3, _ => exact hf _ _ m3
theorem ya_ok.n8 (ok : ya_ok t f) : ∀ j, j < (f 0).toNat → ya_n f j ≤ 8 := fun j hj => by
  have := ok.num
  exact (ok.nn (k := j) (by omega)).2
def ex_arg : Int → String := fun _ => xIAE
theorem yd_setTide (hG : co_G G K) (hK : co_W K h) (hW : yd_W K h A f) (ok : ya_ok t f) (hJ : yd_J K A (f 0).toNat lo) (hlo : lo ≤ h.1) (i v : Int) (hi : pb_rg i) (hv : pb_rg v) : pb_Ctr G mX2_setTide 7 2 8 [pb_r (A 0), pb_i i, pb_i v] h (yd_Q K h A lo ex_arg (sp_tide f i v)) := by
  have hn := ok.num
  refine pb_Ctr.of rfl rfl rfl tX2_setTide_ok rfl ?_
  (try refine pb_Ex.run rfl ?_)
  refine pb_Ex.fin (fun hf => ?_)
  refine pb_Ex.newZ 2 rfl rfl (by omega) (by omega) (by omega) ?_
  (try refine pb_Ex.run rfl ?_)
  refine pb_Ex.pS rfl rfl rfl rfl (ck_bt (i) (0) (11) (by omega) (by omega) (by omega)) (by omega) (by omega) (by omega) ?_
  obtain ⟨v1, hv1, iv1⟩ := bt_ex (0 ≤ i ∧ i ≤ 11)
  rw [← hv1]
  (try refine pb_Ex.run rfl ?_)
  refine pb_Ex.zstat (0) rfl (pb_new_same) (by omega) (by omega) (by omega) ?_
  (try refine pb_Ex.run rfl ?_)
  refine pb_Ex.pS rfl rfl rfl rfl (ck_bt (v) (0) (50) (by omega) (by omega) (by omega)) (by omega) (by omega) (by omega) ?_
  obtain ⟨v2, hv2, iv2⟩ := bt_ex (0 ≤ v ∧ v ≤ 50)
  rw [← hv2]
  (try refine pb_Ex.run rfl ?_)
  refine pb_Ex.zstat (1) rfl (pb_set_same) (by omega) (by omega) (by omega) ?_
  (try refine pb_Ex.run rfl ?_)
  have x2 : fr_x h (pb_set (pb_set (pb_new h (pb_aI 1 2 fun _ => 0)) h.1 (pb_aI 1 2 (va_up (fun _ => 0) 0 v1))) h.1 (pb_aI 1 2 (va_up (va_up (fun _ => 0) 0 v1) 1 v2))) := ((fr_x.rf.nw hf _).st hf _ (Nat.le_refl _)).st hf _ (Nat.le_refl _)
  have b2 : (pb_set (pb_set (pb_new h (pb_aI 1 2 fun _ => 0)) h.1 (pb_aI 1 2 (va_up (fun _ => 0) 0 v1))) h.1 (pb_aI 1 2 (va_up (va_up (fun _ => 0) 0 v1) 1 v2))).2 h.1 = some (pb_aI 1 2 (va_up (va_up (fun _ => 0) 0 v1) 1 v2)) := pb_set_same
  generalize pb_set (pb_set (pb_new h (pb_aI 1 2 fun _ => 0)) h.1 (pb_aI 1 2 (va_up (fun _ => 0) 0 v1))) h.1 (pb_aI 1 2 (va_up (va_up (fun _ => 0) 0 v1) 1 v2)) = h2 at x2 b2 ⊢
  have ar := ar_2 iv1.1 iv2.1
  by_cases c : (0 ≤ i ∧ i ≤ 11) ∧ 0 ≤ v ∧ v ≤ 50
  · have e : sp_tide f i v = (0, f (5 + i.toNat), va_up f (5 + i.toNat) v) := by unfold sp_tide; rw [if_neg (not_not_intro c)]
    rw [e]
    refine pb_Ex.pS rfl rfl rfl rfl (ck_arg1 b2 (by omega) (ar.2.mpr ⟨iv1.2.mpr c.1, iv2.2.mpr c.2⟩)) (by omega) (by omega) (by omega) ?_
    (try refine pb_Ex.run rfl ?_)
    obtain ⟨j, rfl⟩ := Int.eq_ofNat_of_zero_le c.1.1
    rw [Int.toNat_natCast]
    have hW2 := hW.x x2
    obtain ⟨ca, k6, k7⟩ := hW2.2.2.2.2.1
    have nE := yd_E (hK.x hG x2) hW2
    have ge := yd_ge hJ (i := 3) (by omega) (nE 3 (by omega))
    have old := ok.tid (i := j) (by omega)
    refine pb_Ex.getf rfl rfl hW2.1 rfl ?_
    (try refine pb_Ex.run rfl ?_)
    refine pb_Ex.iat (j) rfl (k6) (by omega) (by omega) ?_
    (try refine pb_Ex.run rfl ?_)
    refine pb_Ex.getf rfl rfl hW2.1 rfl ?_
    (try refine pb_Ex.run rfl ?_)
    refine pb_Ex.istat (j) rfl (k6) (by omega) (by omega) ?_
    (try refine pb_Ex.run rfl ?_)
    rw [k7 j (by omega)]
    refine pb_Ex.iret rfl rfl (by omega) (by omega) (yd_Q.ok (A' := A) (x2.P.st _ (fun c hc => by show ¬ A 3 < lo; omega)) rfl (yd_W.arr (x := 3) (N := 12) hW2 hJ ok.n8 (Or.inl ⟨rfl, rfl⟩) (nE 3 (by omega)) (fr_P.rf.st _ (fun c hc z => z rfl)) k6 pb_set_same (fun _ j2 hj2 => ?_) (fun z => absurd z (by omega)) (fun i hi => va_upN _ _ (by omega)) (fun z => absurd rfl z) (fun _ i hi => va_upN _ _ (by omega))) ?_)
    · unfold va_up
      by_cases q : j2 = j
      · rw [if_pos q, if_pos (by omega)]
      · rw [if_neg q, if_neg (by omega)]; exact k7 j2 hj2
    · rw [va_upN _ _ (by omega)]; exact hJ
  · have e : sp_tide f i v = (1, -1, f) := by unfold sp_tide; rw [if_pos c]
    rw [e]
    refine pb_Ex.tS rfl rfl rfl rfl (ck_argE hG b2 (by omega) ar.1 (fun z => c ⟨iv1.2.mp (ar.2.mp z).1, iv2.2.mp (ar.2.mp z).2⟩)) (by omega) (by omega) (by omega) (fun q h1 hx1 => pb_Xx.out rfl (by omega) (by omega) ?_)
    exact yd_Q.no (ex := ex_arg) (fr_P.ho (fr_x.P (x2.tr hx1)) (by omega)) (by decide)
theorem yd_setSlip (hG : co_G G K) (hK : co_W K h) (hW : yd_W K h A f) (ok : ya_ok t f) (hJ : yd_J K A (f 0).toNat lo) (hlo : lo ≤ h.1) (i v : Int) (hi : pb_rg i) (hv : pb_rg v) : pb_Ctr G mX2_setSlip 7 2 8 [pb_r (A 0), pb_i i, pb_i v] h (yd_Q K h A lo ex_arg (sp_slip f i v)) := by
  have hn := ok.num
  refine pb_Ctr.of rfl rfl rfl tX2_setSlip_ok rfl ?_
  (try refine pb_Ex.run rfl ?_)
  refine pb_Ex.fin (fun hf => ?_)
  refine pb_Ex.newZ 2 rfl rfl (by omega) (by omega) (by omega) ?_
  (try refine pb_Ex.run rfl ?_)
  refine pb_Ex.pS rfl rfl rfl rfl (ck_bt (i) (0) (3) (by omega) (by omega) (by omega)) (by omega) (by omega) (by omega) ?_
  obtain ⟨v1, hv1, iv1⟩ := bt_ex (0 ≤ i ∧ i ≤ 3)
  rw [← hv1]
  (try refine pb_Ex.run rfl ?_)
  refine pb_Ex.zstat (0) rfl (pb_new_same) (by omega) (by omega) (by omega) ?_
  (try refine pb_Ex.run rfl ?_)
  refine pb_Ex.pS rfl rfl rfl rfl (ck_bt (v) (0) (8) (by omega) (by omega) (by omega)) (by omega) (by omega) (by omega) ?_
  obtain ⟨v2, hv2, iv2⟩ := bt_ex (0 ≤ v ∧ v ≤ 8)
  rw [← hv2]
  (try refine pb_Ex.run rfl ?_)
  refine pb_Ex.zstat (1) rfl (pb_set_same) (by omega) (by omega) (by omega) ?_
  (try refine pb_Ex.run rfl ?_)
  have x2 : fr_x h (pb_set (pb_set (pb_new h (pb_aI 1 2 fun _ => 0)) h.1 (pb_aI 1 2 (va_up (fun _ => 0) 0 v1))) h.1 (pb_aI 1 2 (va_up (va_up (fun _ => 0) 0 v1) 1 v2))) := ((fr_x.rf.nw hf _).st hf _ (Nat.le_refl _)).st hf _ (Nat.le_refl _)
  have b2 : (pb_set (pb_set (pb_new h (pb_aI 1 2 fun _ => 0)) h.1 (pb_aI 1 2 (va_up (fun _ => 0) 0 v1))) h.1 (pb_aI 1 2 (va_up (va_up (fun _ => 0) 0 v1) 1 v2))).2 h.1 = some (pb_aI 1 2 (va_up (va_up (fun _ => 0) 0 v1) 1 v2)) := pb_set_same
  generalize pb_set (pb_set (pb_new h (pb_aI 1 2 fun _ => 0)) h.1 (pb_aI 1 2 (va_up (fun _ => 0) 0 v1))) h.1 (pb_aI 1 2 (va_up (va_up (fun _ => 0) 0 v1) 1 v2)) = h2 at x2 b2 ⊢
  have ar := ar_2 iv1.1 iv2.1
  by_cases c : (0 ≤ i ∧ i ≤ 3) ∧ 0 ≤ v ∧ v ≤ 8
  · have e : sp_slip f i v = (0, f (17 + i.toNat), va_up f (17 + i.toNat) v) := by unfold sp_slip; rw [if_neg (not_not_intro c)]
    rw [e]
    refine pb_Ex.pS rfl rfl rfl rfl (ck_arg1 b2 (by omega) (ar.2.mpr ⟨iv1.2.mpr c.1, iv2.2.mpr c.2⟩)) (by omega) (by omega) (by omega) ?_
    (try refine pb_Ex.run rfl ?_)
    obtain ⟨j, rfl⟩ := Int.eq_ofNat_of_zero_le c.1.1
    rw [Int.toNat_natCast]
    have hW2 := hW.x x2
    obtain ⟨ca, k6, k7⟩ := hW2.2.2.2.2.2.1
    have nE := yd_E (hK.x hG x2) hW2
    have ge := yd_ge hJ (i := 4) (by omega) (nE 4 (by omega))
    have old := ok.sli (i := j) (by omega)
    refine pb_Ex.getf rfl rfl hW2.1 rfl ?_
    (try refine pb_Ex.run rfl ?_)
    refine pb_Ex.iat (j) rfl (k6) (by omega) (by omega) ?_
    (try refine pb_Ex.run rfl ?_)
    refine pb_Ex.getf rfl rfl hW2.1 rfl ?_
    (try refine pb_Ex.run rfl ?_)
    refine pb_Ex.istat (j) rfl (k6) (by omega) (by omega) ?_
    (try refine pb_Ex.run rfl ?_)
    rw [k7 j (by omega)]
    refine pb_Ex.iret rfl rfl (by omega) (by omega) (yd_Q.ok (A' := A) (x2.P.st _ (fun c hc => by show ¬ A 4 < lo; omega)) rfl (yd_W.arr (x := 4) (N := 4) hW2 hJ ok.n8 (Or.inr ⟨rfl, rfl⟩) (nE 4 (by omega)) (fr_P.rf.st _ (fun c hc z => z rfl)) k6 pb_set_same (fun z => absurd z (by omega)) (fun _ j2 hj2 => ?_) (fun i hi => va_upN _ _ (by omega)) (fun _ i hi => va_upN _ _ (by omega)) (fun z => absurd rfl z)) ?_)
    · unfold va_up
      by_cases q : j2 = j
      · rw [if_pos q, if_pos (by omega)]
      · rw [if_neg q, if_neg (by omega)]; exact k7 j2 hj2
    · rw [va_upN _ _ (by omega)]; exact hJ
  · have e : sp_slip f i v = (1, -1, f) := by unfold sp_slip; rw [if_pos c]
    rw [e]
    refine pb_Ex.tS rfl rfl rfl rfl (ck_argE hG b2 (by omega) ar.1 (fun z => c ⟨iv1.2.mp (ar.2.mp z).1, iv2.2.mp (ar.2.mp z).2⟩)) (by omega) (by omega) (by omega) (fun q h1 hx1 => pb_Xx.out rfl (by omega) (by omega) ?_)
    exact yd_Q.no (ex := ex_arg) (fr_P.ho (fr_x.P (x2.tr hx1)) (by omega)) (by decide)
end OPS
