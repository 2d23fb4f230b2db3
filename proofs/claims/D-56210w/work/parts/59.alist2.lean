set_option maxRecDepth 100000
section ALIST2
variable {G : pb_G} {K : co_K} {h : pb_H} {a e m : Nat} {g : Nat → Nat}
/-- what growing leaves -/
def al_Gr (h : pb_H) (a m : Nat) (mc : Int) (q : Nat → Option Nat) (h' : pb_H) : Prop := h'.1 = h.1 + 1 ∧ h'.2 a = some (pb_ob 12 [pb_i mc, pb_r h.1, pb_i m]) ∧ (∃ (q' : Nat → Option Nat) (N : Nat), (N = 10 ∨ N = 15) ∧ m < N ∧ h'.2 h.1 = some (pb_aR N q') ∧ ∀ j, j < m → q' j = q j) ∧ ∀ x, x ≠ h.1 → x ≠ a → h'.2 x = h.2 x
theorem ja_grow2 {mc : Int} {q : Nat → Option Nat} (hG : co_G G K) (ho : h.2 a = some (pb_ob 12 [pb_i mc, pb_r e, pb_i m])) (he : h.2 e = some (pb_aR m q)) (hm : m = 0 ∨ m = 10) (hE : m = 0 ↔ e = co_E K) (hq : ∀ i, i < m → ∀ y, q i = some y → ∃ ci fs, h.2 y = some (pb_ob ci fs)) : pb_Ctr G mJ2_grow_2 4 1 15 [pb_r a, pb_i (m + 1)] h (fun oc h' => oc = .inl (some (pb_r h.1)) ∧ al_Gr h a m mc q h') := by
  refine pb_Ctr.of rfl rfl rfl tJ2_grow_2_ok rfl ?_
  (try refine pb_Ex.run rfl ?_)
  refine pb_Ex.fin (fun hf => ?_)
  have hal := hf a _ ho
  refine pb_Ex.getf rfl rfl ho rfl ?_
  (try refine pb_Ex.run rfl ?_)
  refine pb_Ex.alen0 (N := m) (kd := 0) rfl (he) rfl (by omega) ?_
  (try refine pb_Ex.run rfl ?_)
  rcases hm with rfl | rfl
  · refine pb_Ex.ifF rfl (by omega) (by first | decide | (simp only [pb_cmp]; omega) | simp [pb_cmp]) ?_
    (try refine pb_Ex.run rfl ?_)
    refine pb_Ex.getf rfl rfl ho rfl ?_
    (try refine pb_Ex.run rfl ?_)
    refine pb_Ex.gets rfl hG.2.1.1 q143 ?_
    refine pb_Ex.acmp_eq rfl (fun _ => ?_) (fun e9 => absurd (by rw [hE.mp rfl]) e9)
    refine pb_Ex.run rfl ?_
    refine pb_Ex.mmax rfl rfl (by omega) (by omega) rfl (by omega) (by omega) (by omega) ?_
    (try refine pb_Ex.run rfl ?_)
    refine pb_Ex.newO 10 rfl rfl (by omega) (by omega) (by omega) (by omega) ?_
    refine pb_Ex.run rfl ?_
    have ho2 : (pb_new h (pb_aR 10 (fun _ => none))).2 a = some (pb_ob 12 [pb_i mc, pb_r e, pb_i (0 : Nat)]) := by rw [pb_new_ne (by omega)]; exact ho
    refine pb_Ex.putf rfl rfl (ho2) rfl rfl (by first | trivial | exact Or.inl rfl | exact Or.inr rfl | (show _ ∨ _; omega) | (show _ ∧ _; omega)) ?_
    (try refine pb_Ex.run rfl ?_)
    refine pb_Ex.aret rfl rfl (by first | exact Or.inl ⟨_, rfl⟩ | exact Or.inr ⟨_, rfl⟩) (by omega) (by omega) (⟨rfl, rfl, pb_set_same, ⟨_, 10, Or.inl rfl, by omega, (pb_set_ne (by omega)).trans pb_new_same, fun j hj => absurd hj (Nat.not_lt_zero _)⟩, fun x h1 h2 => by rw [pb_set_ne h2, pb_new_ne h1]⟩)
  · refine pb_Ex.ifT rfl (by omega) (by first | decide | (simp only [pb_cmp]; omega) | simp [pb_cmp]) ?_
    (try refine pb_Ex.run rfl ?_)
    refine pb_Ex.ishr (a := 10) (s := 1) rfl (by omega) (by omega) ?_
    (try refine pb_Ex.run rfl ?_)
    have e1 : ((10 : Nat) : Int) + 1 - ((10 : Nat) : Int) = ((1 : Nat) : Int) := by omega
    rw [e1]
    refine pb_Ex.pS rfl rfl rfl rfl (jx_newLength 10 1 5 (by omega) (by omega) (by omega) (by omega)) (by omega) (by omega) (by omega) ?_
    (try refine pb_Ex.run rfl ?_)
    refine pb_Ex.getf rfl rfl ho rfl ?_
    (try refine pb_Ex.run rfl ?_)
    refine pb_Ex.cS rfl rfl rfl rfl (jx_copyOf (N := 15) hG he (by omega) (by omega) (by omega) hq) ⟨by omega, by omega, by omega⟩ (fun v h1 hq1 => ?_) (fun E q9 h1 hq1 => by cases hq1.1)
    obtain ⟨e2, e3, ⟨q', e4, e5⟩, e6⟩ := hq1
    cases e2
    (try refine pb_Ex.run rfl ?_)
    have ho2 : h1.2 a = some (pb_ob 12 [pb_i mc, pb_r e, pb_i (10 : Nat)]) := by rw [e6 _ (by omega)]; exact ho
    refine pb_Ex.putf rfl rfl (ho2) rfl rfl (by first | trivial | exact Or.inl rfl | exact Or.inr rfl | (show _ ∨ _; omega) | (show _ ∧ _; omega)) ?_
    (try refine pb_Ex.run rfl ?_)
    refine pb_Ex.aret rfl rfl (by first | exact Or.inl ⟨_, rfl⟩ | exact Or.inr ⟨_, rfl⟩) (by omega) (by omega) (⟨rfl, e3, pb_set_same, ⟨q', 15, Or.inr rfl, by omega, (pb_set_ne (by omega)).trans e4, e5⟩, fun x h1 h2 => by rw [pb_set_ne h2, e6 _ h1]⟩)
theorem ja_grow {mc : Int} {q : Nat → Option Nat} (hG : co_G G K) (ho : h.2 a = some (pb_ob 12 [pb_i mc, pb_r e, pb_i m])) (he : h.2 e = some (pb_aR m q)) (hm : m = 0 ∨ m = 10) (hE : m = 0 ↔ e = co_E K) (hq : ∀ i, i < m → ∀ y, q i = some y → ∃ ci fs, h.2 y = some (pb_ob ci fs)) : pb_Ctr G mJ2_grow 5 1 15 [pb_r a] h (fun oc h' => oc = .inl (some (pb_r h.1)) ∧ al_Gr h a m mc q h') := by
  refine pb_Ctr.of rfl rfl rfl tJ2_grow_ok rfl ?_
  (try refine pb_Ex.run rfl ?_)
  refine pb_Ex.getf rfl rfl ho rfl ?_
  (try refine pb_Ex.run rfl ?_)
  refine pb_Ex.cV rfl rfl rfl rfl ho rfl rfl (ja_grow2 hG ho he hm hE hq) ⟨by omega, by omega, by omega⟩ (fun v h1 hq1 => ?_) (fun E q9 h1 hq1 => by cases hq1.1)
  obtain ⟨e2, e3⟩ := hq1
  cases e2
  refine pb_Ex.aret rfl rfl (by first | exact Or.inl ⟨_, rfl⟩ | exact Or.inr ⟨_, rfl⟩) (by omega) (by omega) (⟨rfl, e3⟩)
/-- what is left behind an addition -/
def al_Ad (K : co_K) (h : pb_H) (a e m x : Nat) (g : Nat → Nat) (h' : pb_H) : Prop := ∃ e', al_W K h' a e' (m + 1) (va_up g m x) ∧ (e' = e ∨ e' = h.1) ∧ e' ≠ co_E K ∧ h'.1 ≤ h.1 + 1 ∧ fr_P (fun b _ => b ≠ a ∧ (b ≠ e ∨ b = co_E K)) h h'
theorem ja_add2 {x ci : Nat} {fs : List pb_V} (hG : co_G G K) (hK : co_W K h) (hW : al_W K h a e m g) (hm : m < 15) (hx : h.2 x = some (pb_ob ci fs)) (hci : ci ≠ 12) : pb_Ctr G mJ2_add_2 6 1 15 [pb_r a, pb_r x, pb_r e, pb_i m] h (fun oc h' => oc = .inl none ∧ al_Ad K h a e m x g h') := by
  obtain ⟨mc, cap, q, ho, he, hn, hc, hE, hq⟩ := hW
  obtain ⟨q0, hK0⟩ := hK.1
  refine pb_Ctr.of rfl rfl rfl tJ2_add_2_ok rfl ?_
  (try refine pb_Ex.run rfl ?_)
  refine pb_Ex.fin (fun hf => ?_)
  have hal := hf a _ ho
  have hel := hf e _ he
  have hxl := hf x _ hx
  have hxa : x ≠ a := fun z => by subst z; rw [hx] at ho; cases ho; exact hci rfl
  have hxe : x ≠ e := fun z => by subst z; rw [hx] at he; cases he
  have hae : a ≠ e := fun z => by subst z; rw [ho] at he; cases he
  have hga : ∀ j, j < m → g j ≠ a ∧ g j ≠ e ∧ g j < h.1 := fun j hj => by
    obtain ⟨-, ci', fs', h1, h2⟩ := hq j hj
    exact ⟨(fun z => by rw [z, ho] at h2; cases h2; exact h1 rfl), (fun z => by rw [z, he] at h2; cases h2), hf _ _ h2⟩
  refine pb_Ex.alen0 (N := cap) (kd := 0) rfl (he) rfl (by omega) ?_
  (try refine pb_Ex.run rfl ?_)
  by_cases hfull : m < cap
  · refine pb_Ex.icmpT rfl (by omega) (by omega) (by first | decide | (simp only [pb_cmp]; omega) | simp [pb_cmp]) ?_
    (try refine pb_Ex.run rfl ?_)
    have hEe : e ≠ co_E K := fun z => by have := hE.mpr z; omega
    refine pb_Ex.aast m rfl he rfl hfull hx ?_
    refine pb_Ex.run rfl ?_
    have ho2 : (pb_set h e (pb_aR cap (va_up q m (some x)))).2 a = some (pb_ob 12 [pb_i mc, pb_r e, pb_i m]) := by rw [pb_set_ne hae]; exact ho
    refine pb_Ex.putf rfl rfl (ho2) rfl rfl (by first | trivial | exact Or.inl rfl | exact Or.inr rfl | (show _ ∨ _; omega) | (show _ ∧ _; omega)) ?_
    (try refine pb_Ex.run rfl ?_)
    refine pb_Ex.vret rfl rfl (by omega) (by omega) ⟨rfl, e, ⟨mc, cap, va_up q m (some x), pb_set_same, (pb_set_ne (Ne.symm hae)).trans pb_set_same, by omega, hc, hE, fun j hj => ?_⟩, Or.inl rfl, hEe, Nat.le_succ _, Nat.le_refl _, fun b c h1 h2 => ?_⟩
    · by_cases hjm : j = m
      · subst hjm
        rw [va_upS, va_upS]
        exact ⟨rfl, ci, fs, hci, by rw [pb_set_ne hxa, pb_set_ne hxe]; exact hx⟩
      · obtain ⟨h1, ci', fs', h2, h3⟩ := hq j (by omega)
        obtain ⟨k1, k2, k3⟩ := hga j (by omega)
        rw [va_upN _ _ hjm, va_upN _ _ hjm]
        exact ⟨h1, ci', fs', h2, by rw [pb_set_ne k1, pb_set_ne k2]; exact h3⟩
    · have h3 : b ≠ e := h2.2.elim id (fun z z2 => hEe (by rw [← z2]; exact z))
      rw [pb_set_ne h2.1, pb_set_ne h3]
      exact h1
  · have hcm : cap = m := by omega
    subst hcm
    refine pb_Ex.icmpF rfl (by omega) (by omega) (by first | decide | (simp only [pb_cmp]; omega) | simp [pb_cmp]) ?_
    (try refine pb_Ex.run rfl ?_)
    refine pb_Ex.cV rfl rfl rfl rfl ho rfl rfl (ja_grow hG ho he (by omega) hE (fun i hi y hy => by
      obtain ⟨h1, ci', fs', h2, h3⟩ := hq i hi
      rw [h1] at hy
      cases hy
      exact ⟨ci', fs', h3⟩)) ⟨by omega, by omega, by omega⟩ (fun v h1 hq1 => ?_) (fun E q9 h1 hq1 => by cases hq1.1)
    obtain ⟨e2, e3, e4, ⟨q', N, e5, e6, e7, e8⟩, e9⟩ := hq1
    cases e2
    (try refine pb_Ex.run rfl ?_)
    have hx1 : h1.2 x = some (pb_ob ci fs) := by rw [e9 _ (by omega) hxa]; exact hx
    refine pb_Ex.aast cap rfl e7 rfl e6 hx1 ?_
    refine pb_Ex.run rfl ?_
    have ho2 : (pb_set h1 h.1 (pb_aR N (va_up q' cap (some x)))).2 a = some (pb_ob 12 [pb_i mc, pb_r h.1, pb_i cap]) := by rw [pb_set_ne (by omega)]; exact e4
    refine pb_Ex.putf rfl rfl (ho2) rfl rfl (by first | trivial | exact Or.inl rfl | exact Or.inr rfl | (show _ ∨ _; omega) | (show _ ∧ _; omega)) ?_
    (try refine pb_Ex.run rfl ?_)
    have hEl : co_E K < h.1 := hf _ _ hK0
    refine pb_Ex.vret rfl rfl (by omega) (by omega) ⟨rfl, h.1, ⟨mc, N, va_up q' cap (some x), pb_set_same, (pb_set_ne (by omega)).trans pb_set_same, by omega, Or.inr e5, ⟨fun z => by omega, fun z => by omega⟩, fun j hj => ?_⟩, Or.inr rfl, by omega, Nat.le_of_eq e3, by rw [show (pb_set (pb_set h1 h.1 (pb_aR N (va_up q' cap (some x)))) a (pb_ob 12 ([pb_i mc, pb_r h.1, pb_i cap].set 2 (pb_i ((cap : Int) + 1))))).1 = h1.1 from rfl, e3]; exact Nat.le_succ _, fun b c k1 k2 => ?_⟩
    · by_cases hjm : j = cap
      · subst hjm
        rw [va_upS, va_upS]
        exact ⟨rfl, ci, fs, hci, by rw [pb_set_ne hxa, pb_set_ne (by omega)]; exact hx1⟩
      · obtain ⟨k1, ci', fs', k2, k3⟩ := hq j (by omega)
        obtain ⟨k4, k5, k6⟩ := hga j (by omega)
        rw [va_upN _ _ hjm, va_upN _ _ hjm, e8 j (by omega)]
        exact ⟨k1, ci', fs', k2, by rw [pb_set_ne k4, pb_set_ne (by omega), e9 _ (by omega) k4]; exact k3⟩
    · have k3 := hf _ _ k1
      rw [pb_set_ne k2.1, pb_set_ne (by omega), e9 _ (by omega) k2.1]
      exact k1
/-- an object is added -/
theorem ja_add {x ci : Nat} {fs : List pb_V} (hG : co_G G K) (hK : co_W K h) (hW : al_W K h a e m g) (hm : m < 15) (hx : h.2 x = some (pb_ob ci fs)) (hci : ci ≠ 12) : pb_Ctr G mJ2_add 7 1 15 [pb_r a, pb_r x] h (fun oc h' => oc = .inl (some (pb_i 1)) ∧ al_Ad K h a e m x g h') := by
  have hW' := hW
  obtain ⟨mc, cap, q, ho, he, hn, hc, hE, hq⟩ := hW
  obtain ⟨q0, hK0⟩ := hK.1
  refine pb_Ctr.of rfl rfl rfl tJ2_add_ok rfl ?_
  (try refine pb_Ex.run rfl ?_)
  refine pb_Ex.getf rfl rfl ho rfl ?_
  (try refine pb_Ex.run rfl ?_)
  refine pb_Ex.putf rfl rfl (ho) rfl rfl (by first | trivial | exact Or.inl rfl | exact Or.inr rfl | (show _ ∨ _; omega) | (show _ ∧ _; omega)) ?_
  (try refine pb_Ex.run rfl ?_)
  have hxa : x ≠ a := fun z => by subst z; rw [hx] at ho; cases ho; exact hci rfl
  have hae : a ≠ e := fun z => by subst z; rw [ho] at he; cases he
  have hEa : co_E K ≠ a := fun z => by rw [z, ho] at hK0; cases hK0
  have ho2 : (pb_set h a (pb_ob 12 ([pb_i mc, pb_r e, pb_i m].set 0 (pb_i (mc + 1))))).2 a = some (pb_ob 12 [pb_i (mc + 1), pb_r e, pb_i m]) := pb_set_same
  have hK2 : co_W K (pb_set h a (pb_ob 12 ([pb_i mc, pb_r e, pb_i m].set 0 (pb_i (mc + 1))))) := by
    obtain ⟨-, ⟨g1, k1, k2⟩, ⟨g2, k3, k4⟩, k5⟩ := hK
    refine ⟨⟨q0, by rw [pb_set_ne hEa]; exact hK0⟩, ⟨g1, by rw [pb_set_ne (fun z => by rw [z, ho] at k1; cases k1)]; exact k1, k2⟩, ⟨g2, by rw [pb_set_ne (fun z => by rw [z, ho] at k3; cases k3)]; exact k3, k4⟩, fun i y hy => ?_⟩
    obtain ⟨k6, g3, k7, k8⟩ := k5 i y hy
    exact ⟨by rw [pb_set_ne (fun z => by rw [z, ho] at k6; cases k6)]; exact k6, g3, by rw [pb_set_ne (fun z => by rw [z, ho] at k7; cases k7)]; exact k7, k8⟩
  have hW2 : al_W K (pb_set h a (pb_ob 12 ([pb_i mc, pb_r e, pb_i m].set 0 (pb_i (mc + 1))))) a e m g := by
    refine ⟨mc + 1, cap, q, ho2, by rw [pb_set_ne (Ne.symm hae)]; exact he, hn, hc, hE, fun j hj => ?_⟩
    obtain ⟨k1, ci', fs', k2, k3⟩ := hq j hj
    exact ⟨k1, ci', fs', k2, by rw [pb_set_ne (fun z => by rw [z, ho] at k3; cases k3; exact k2 rfl)]; exact k3⟩
  refine pb_Ex.getf rfl rfl ho2 rfl ?_
  (try refine pb_Ex.run rfl ?_)
  refine pb_Ex.getf rfl rfl ho2 rfl ?_
  (try refine pb_Ex.run rfl ?_)
  refine pb_Ex.cV rfl rfl rfl rfl ho2 rfl rfl (ja_add2 hG hK2 hW2 hm (by rw [pb_set_ne hxa]; exact hx) hci) ⟨by omega, by omega, by omega⟩ (fun v h1 hq1 => ?_) (fun E q9 h1 hq1 => by cases hq1.1)
  obtain ⟨e2, e', e3, e4, e5, e6, e7, e8⟩ := hq1
  cases e2
  (try refine pb_Ex.run rfl ?_)
  refine pb_Ex.zret (ty := .boolean) rfl rfl (pb_nb (Or.inr rfl)).1 (by omega) (by omega) (⟨rfl, e', e3, e4, e5, e6, e7, fun b c k1 k2 => e8 b c (by rw [pb_set_ne k2.1]; exact k1) k2⟩)
end ALIST2
