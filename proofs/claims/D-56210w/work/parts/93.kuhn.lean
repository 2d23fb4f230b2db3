set_option maxRecDepth 100000
/-! THE MATCHING -/
abbrev kf_S : Type := (Nat → Int) × (Nat → Int)
def ya_ft (f : Nat → Int) (k i : Nat) : Prop := f (21 + 28 * k) = 0 ∧ 2 ≤ f (22 + 28 * k) ∧ f (22 + 28 * k) ≤ f (17 + i)
noncomputable def kf_l (f : Nat → Int) (rec : Nat → kf_S → Bool × kf_S) (x : Nat) : Nat → Nat → kf_S → Bool × kf_S
  | 0, _, s => (false, s)
  | d + 1, i, s => if s.2 i = 0 ∧ (f (21 + 28 * x) = 0 ∧ 2 ≤ f (22 + 28 * x) ∧ f (22 + 28 * x) ≤ f (17 + i)) then
      (if s.1 i = -1 then (true, (va_up s.1 i x, va_up s.2 i 1))
       else if (rec (s.1 i).toNat (s.1, va_up s.2 i 1)).1 = true then (true, (va_up (rec (s.1 i).toNat (s.1, va_up s.2 i 1)).2.1 i x, (rec (s.1 i).toNat (s.1, va_up s.2 i 1)).2.2))
       else kf_l f rec x d (i + 1) (rec (s.1 i).toNat (s.1, va_up s.2 i 1)).2)
    else kf_l f rec x d (i + 1) s
noncomputable def kf (f : Nat → Int) : Nat → Nat → kf_S → Bool × kf_S
  | 0, _, s => (false, s)
  | n + 1, x, s => kf_l f (kf f n) x 4 0 s
def kf_un (t : Nat → Int) : Nat := (if t 0 = 0 then 1 else 0) + (if t 1 = 0 then 1 else 0) + (if t 2 = 0 then 1 else 0) + (if t 3 = 0 then 1 else 0)
theorem kf_un_up {t : Nat → Int} {i : Nat} (hi : i < 4) (h : t i = 0) : kf_un (va_up t i 1) + 1 = kf_un t := by
  unfold kf_un va_up
  have : i = 0 ∨ i = 1 ∨ i = 2 ∨ i = 3 := by omega
  rcases this with rfl | rfl | rfl | rfl <;> simp [h] <;> omega
/-- the state's form: hulls or -1 on slips, marks -/
def kf_ok (f : Nat → Int) (s : kf_S) : Prop := ∀ i, i < 4 → (s.1 i = -1 ∨ (0 ≤ s.1 i ∧ s.1 i < f 0)) ∧ (s.2 i = 0 ∨ s.2 i = 1)
theorem kf_ok.tr {f : Nat → Int} {s : kf_S} {i : Nat} (h : kf_ok f s) : kf_ok f (s.1, va_up s.2 i 1) := fun j hj => by
  refine ⟨(h j hj).1, ?_⟩
  show va_up s.2 i 1 j = 0 ∨ va_up s.2 i 1 j = 1
  unfold va_up
  split
  · exact Or.inr rfl
  · exact (h j hj).2
theorem kf_ok.on {f : Nat → Int} {s : kf_S} {i x : Nat} (h : kf_ok f s) (hx : (x : Int) < f 0) : kf_ok f (va_up s.1 i x, s.2) := fun j hj => by
  refine ⟨?_, (h j hj).2⟩
  show va_up s.1 i (x : Int) j = -1 ∨ (0 ≤ va_up s.1 i (x : Int) j ∧ va_up s.1 i (x : Int) j < f 0)
  unfold va_up
  split
  · exact Or.inr ⟨by omega, hx⟩
  · exact (h j hj).1
/-- marks only come -/
theorem kf_l_ok {f : Nat → Int} {rec : Nat → kf_S → Bool × kf_S} (hrec : ∀ (x : Nat) (s : kf_S), (x : Int) < f 0 → kf_ok f s → kf_ok f (rec x s).2 ∧ kf_un (rec x s).2.2 ≤ kf_un s.2) {x : Nat} (hx : (x : Int) < f 0) : ∀ (d i : Nat) (s : kf_S), i + d = 4 → kf_ok f s → kf_ok f (kf_l f rec x d i s).2 ∧ kf_un (kf_l f rec x d i s).2.2 ≤ kf_un s.2
  | 0, _, s, _, h => ⟨h, Nat.le_refl _⟩
  | d + 1, i, s, hi, h => by
    unfold kf_l
    by_cases c : s.2 i = 0 ∧ (f (21 + 28 * x) = 0 ∧ 2 ≤ f (22 + 28 * x) ∧ f (22 + 28 * x) ≤ f (17 + i))
    · rw [if_pos c]
      have un := kf_un_up (t := s.2) (i := i) (by omega) c.1
      by_cases c1 : s.1 i = -1
      · rw [if_pos c1]
        exact ⟨kf_ok.on (s := (s.1, va_up s.2 i 1)) h.tr hx, by show kf_un (va_up s.2 i 1) ≤ _; omega⟩
      · rw [if_neg c1]
        have hr := (h i (by omega)).1
        have R := hrec (s.1 i).toNat (s.1, va_up s.2 i 1) (by omega) h.tr
        have R2 : kf_un (rec (s.1 i).toNat (s.1, va_up s.2 i 1)).2.2 ≤ kf_un (va_up s.2 i 1) := R.2
        by_cases c2 : (rec (s.1 i).toNat (s.1, va_up s.2 i 1)).1 = true
        · rw [if_pos c2]
          exact ⟨kf_ok.on R.1 hx, by show kf_un (rec (s.1 i).toNat (s.1, va_up s.2 i 1)).2.2 ≤ _; omega⟩
        · rw [if_neg c2]
          have I := kf_l_ok hrec hx d (i + 1) (rec (s.1 i).toNat (s.1, va_up s.2 i 1)).2 (by omega) R.1
          exact ⟨I.1, by omega⟩
    · rw [if_neg c]
      exact kf_l_ok hrec hx d (i + 1) s (by omega) h
theorem kf_okn {f : Nat → Int} : ∀ (n x : Nat) (s : kf_S), (x : Int) < f 0 → kf_ok f s → kf_ok f (kf f n x s).2 ∧ kf_un (kf f n x s).2.2 ≤ kf_un s.2
  | 0, _, s, _, h => ⟨h, Nat.le_refl _⟩
  | n + 1, x, s, hx, h => kf_l_ok (kf_okn n) hx 4 0 s (by omega) h
section KUHN
variable {G : pb_G} {K : co_K} {h h0 : pb_H} {A : Nat → Nat} {f : Nat → Int} {t o a b : Nat}
/-- the matching at o, its arrays at a and b, made since h0 -/
def kf_W (h0 h : pb_H) (A : Nat → Nat) (o a b : Nat) (z : Int) (s : kf_S) : Prop := h.2 o = some (pb_ob 9 [pb_r a, pb_r b, pb_i z, pb_r (A 0)]) ∧ h.2 a = some (pb_aI 0 4 s.1) ∧ h.2 b = some (pb_aI 1 4 s.2) ∧ (h0.1 ≤ o ∧ h0.1 ≤ a ∧ h0.1 ≤ b) ∧ fr_x h0 h
def kf_Q (h0 h : pb_H) (A : Nat → Nat) (o a b : Nat) (z : Int) (r : Bool × kf_S) : pb_O → pb_H → Prop := fun oc h' => oc = .inl (some (pb_i (if r.1 = true then 1 else 0))) ∧ kf_W h0 h' A o a b z r.2 ∧ h'.1 = h.1
theorem kf_finds (hG : co_G G K) (hf : fr_fin h0) (hW : yd_W K h0 A f) (ok : ya_ok t f) (z : Int) : ∀ (n x : Nat) (s : kf_S) (h : pb_H), (x : Int) < f 0 → kf_un s.2 < n → kf_ok f s → kf_W h0 h A o a b z s → pb_Ctr G mX11_finds (4 + n) 0 0 [pb_r o, pb_i x] h (kf_Q h0 h A o a b z (kf f n x s)) := by
  intro n
  induction n with
  | zero => exact fun x s h hx hu => absurd hu (Nat.not_lt_zero _)
  | succ n ihn =>
    intro x s h hx hu hok hM
    have hm := ok.num
    refine pb_Ctr.of rfl rfl rfl tX11_finds_ok rfl ?_
    (try refine pb_Ex.run rfl ?_)
    have loop : ∀ (d i : Nat) (w : Int) (s2 : kf_S) (h2 : pb_H), i + d = 4 → w = i → kf_un s2.2 < n + 1 → kf_ok f s2 → kf_W h0 h2 A o a b z s2 → h2.1 = h.1 → pb_Ex G mX11_finds (4 + (n + 1)) 0 0 (kf_Q h0 h A o a b z (kf_l f (kf f n) x d i s2)) 0 0 2 [some (pb_r o), some (pb_i x), some (pb_i w)] [] h2 := by
      intro d
      induction d with
      | zero =>
        intro i w s2 h2 hi hw hu2 hok2 hM2 hs
        refine pb_Ex.run rfl ?_
        refine pb_Ex.icmpT rfl (by omega) (by omega) (by first | decide | (simp only [pb_cmp]; omega) | simp [pb_cmp]) ?_
        (try refine pb_Ex.run rfl ?_)
        refine pb_Ex.zret (ty := .boolean) rfl rfl (pb_nb (Or.inl rfl)).1 (by omega) (by omega) (⟨rfl, hM2, hs⟩)
      | succ d ih =>
        intro i w s2 h2 hi hw hu2 hok2 hM2 hs
        subst hw
        obtain ⟨m1, m2, m3, ⟨l1, l2, l3⟩, hx2⟩ := id hM2
        have nab : a ≠ b := fun e => by rw [e, m3] at m2; cases m2
        have nob : o ≠ b := fun e => by rw [e, m3] at m1; cases m1
        have noa : o ≠ a := fun e => by rw [e, m2] at m1; cases m1
        have hW2 := hW.x hx2
        have o2 := hok2 i (by omega)
        unfold kf_l
        refine pb_Ex.run rfl ?_
        refine pb_Ex.icmpF rfl (by omega) (by omega) (by first | decide | (simp only [pb_cmp]; omega) | simp [pb_cmp]) ?_
        (try refine pb_Ex.run rfl ?_)
        refine pb_Ex.getf rfl rfl m1 rfl ?_
        (try refine pb_Ex.run rfl ?_)
        refine pb_Ex.zat (i) rfl (m3) (by omega) (by omega) ?_
        (try refine pb_Ex.run rfl ?_)
        rcases o2.2 with c0 | c0
        · rw [c0]
          refine pb_Ex.ifF rfl (by omega) (by first | decide | (simp only [pb_cmp]; omega) | simp [pb_cmp]) ?_
          (try refine pb_Ex.run rfl ?_)
          refine pb_Ex.getf rfl rfl m1 rfl ?_
          (try refine pb_Ex.run rfl ?_)
          refine pb_Ex.pV rfl rfl rfl rfl (hW2.1) rfl rfl (yd_fits hG hW2 ok x i (by omega) (by omega)) (by omega) (by omega) (by omega) ?_
          (try refine pb_Ex.run rfl ?_)
          by_cases c1 : f (21 + 28 * x) = 0 ∧ 2 ≤ f (22 + 28 * x) ∧ f (22 + 28 * x) ≤ f (17 + i)
          · rw [if_pos c1, if_pos ⟨rfl, c1⟩]
            refine pb_Ex.ifT rfl (by omega) (by first | decide | (simp only [pb_cmp]; omega) | simp [pb_cmp]) ?_
            (try refine pb_Ex.run rfl ?_)
            refine pb_Ex.getf rfl rfl m1 rfl ?_
            (try refine pb_Ex.run rfl ?_)
            refine pb_Ex.zstat (i) rfl (m3) (by omega) (by omega) (by omega) ?_
            (try refine pb_Ex.run rfl ?_)
            have M3 : kf_W h0 (pb_set h2 b (pb_aI 1 4 (va_up s2.2 i 1))) A o a b z (s2.1, va_up s2.2 i 1) := ⟨by rw [pb_set_ne nob]; exact m1, by rw [pb_set_ne nab]; exact m2, pb_set_same, ⟨l1, l2, l3⟩, hx2.st hf _ l3⟩
            have s3 : (pb_set h2 b (pb_aI 1 4 (va_up s2.2 i 1))).1 = h2.1 := rfl
            generalize pb_set h2 b (pb_aI 1 4 (va_up s2.2 i 1)) = h3 at M3 s3 ⊢
            obtain ⟨p1, p2, p3, -, hx3⟩ := id M3
            have un := kf_un_up (t := s2.2) (i := i) (by omega) c0
            have put : ∀ (h4 : pb_H) (s4 : kf_S) (w : Int), w = (i : Nat) → kf_W h0 h4 A o a b z s4 → h4.1 = h.1 → pb_Ex G mX11_finds (4 + (n + 1)) 0 0 (kf_Q h0 h A o a b z (true, (va_up s4.1 i x, s4.2))) 0 0 64 [some (pb_r o), some (pb_i x), some (pb_i w)] [] h4 := by
              intro h4 s4 w hw M4 z4
              subst hw
              obtain ⟨r1, r2, r3, -, hx4⟩ := id M4
              refine pb_Ex.run rfl ?_
              refine pb_Ex.getf rfl rfl r1 rfl ?_
              (try refine pb_Ex.run rfl ?_)
              refine pb_Ex.istat (i) rfl (r2) (by omega) (by omega) ?_
              (try refine pb_Ex.run rfl ?_)
              refine pb_Ex.zret (ty := .boolean) rfl rfl (pb_nb (Or.inr rfl)).1 (by omega) (by omega) (⟨rfl, ⟨by rw [pb_set_ne noa]; exact r1, pb_set_same, by rw [pb_set_ne (Ne.symm nab)]; exact r3, ⟨l1, l2, l3⟩, hx4.st hf _ l2⟩, z4⟩)
            refine pb_Ex.getf rfl rfl p1 rfl ?_
            (try refine pb_Ex.run rfl ?_)
            refine pb_Ex.iat (i) rfl (p2) (by omega) (by omega) ?_
            (try refine pb_Ex.run rfl ?_)
            rw [show (s2.1, va_up s2.2 i 1).1 i = s2.1 i from rfl]
            by_cases c2 : s2.1 i = -1
            · rw [if_pos c2]
              refine pb_Ex.icmpT rfl (by omega) (by omega) (by first | decide | (simp only [pb_cmp]; omega) | simp [pb_cmp]) ?_
              exact put h3 (s2.1, va_up s2.2 i 1) _ rfl M3 (by omega)
            · rw [if_neg c2]
              obtain ⟨y, hy⟩ : ∃ y : Nat, s2.1 i = y := ⟨(s2.1 i).toNat, by omega⟩
              rw [hy, Int.toNat_natCast]
              refine pb_Ex.icmpF rfl (by omega) (by omega) (by first | decide | (simp only [pb_cmp]; omega) | simp [pb_cmp]) ?_
              (try refine pb_Ex.run rfl ?_)
              refine pb_Ex.getf rfl rfl p1 rfl ?_
              (try refine pb_Ex.run rfl ?_)
              refine pb_Ex.iat (i) rfl (p2) (by omega) (by omega) ?_
              (try refine pb_Ex.run rfl ?_)
              rw [show (s2.1, va_up s2.2 i 1).1 i = (y : Int) from hy]
              have hrec := ihn y (s2.1, va_up s2.2 i 1) h3 (by omega) (by show kf_un (va_up s2.2 i 1) < n; omega) hok2.tr M3
              have okR := kf_okn (f := f) n y (s2.1, va_up s2.2 i 1) (by omega) hok2.tr
              refine pb_Ex.cV rfl rfl rfl rfl p1 rfl rfl hrec ⟨by omega, by omega, by omega⟩ (fun vv h4 hq => ?_) (fun E q9 h5 hq => by cases hq.1)
              obtain ⟨e1, e2, e3⟩ := hq
              cases e1
              have uR : kf_un (kf f n y (s2.1, va_up s2.2 i 1)).2.2 ≤ kf_un (va_up s2.2 i 1) := okR.2
              by_cases c3 : (kf f n y (s2.1, va_up s2.2 i 1)).1 = true
              · rw [if_pos c3, if_pos c3]
                refine pb_Ex.ifT rfl (by omega) (by first | decide | (simp only [pb_cmp]; omega) | simp [pb_cmp]) ?_
                exact put h4 _ _ rfl e2 (by omega)
              · rw [if_neg c3, if_neg c3]
                refine pb_Ex.ifF rfl (by omega) (by first | decide | (simp only [pb_cmp]; omega) | simp [pb_cmp]) ?_
                (try refine pb_Ex.run rfl ?_)
                exact ih (i + 1) _ _ h4 (by omega) (by omega) (by omega) okR.1 e2 (by omega)
          · rw [if_neg c1, if_neg (fun z => c1 z.2)]
            refine pb_Ex.ifF rfl (by omega) (by first | decide | (simp only [pb_cmp]; omega) | simp [pb_cmp]) ?_
            (try refine pb_Ex.run rfl ?_)
            exact ih (i + 1) _ s2 h2 (by omega) (by omega) hu2 hok2 hM2 hs
        · rw [c0, if_neg (fun z => by omega)]
          refine pb_Ex.ifT rfl (by omega) (by first | decide | (simp only [pb_cmp]; omega) | simp [pb_cmp]) ?_
          (try refine pb_Ex.run rfl ?_)
          exact ih (i + 1) _ s2 h2 (by omega) (by omega) hu2 hok2 hM2 hs
    exact loop 4 0 0 s h (by omega) rfl hu hok hM rfl
end KUHN
