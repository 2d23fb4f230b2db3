set_option maxRecDepth 100000
/-- the shortest slip below i that's free and bears hull x -/
def sh_F (f : Nat → Int) (x : Nat) (us : Nat → Int) : Nat → Int
  | 0 => -1
  | i + 1 => if us i = 0 ∧ (f (21 + 28 * x) = 0 ∧ 2 ≤ f (22 + 28 * x) ∧ f (22 + 28 * x) ≤ f (17 + i)) ∧ (sh_F f x us i = -1 ∨ f (17 + i) < f (17 + (sh_F f x us i).toNat)) then i else sh_F f x us i
theorem sh_F_rg (f : Nat → Int) (x : Nat) (us : Nat → Int) : ∀ i : Nat, sh_F f x us i = -1 ∨ (0 ≤ sh_F f x us i ∧ sh_F f x us i < i)
  | 0 => Or.inl rfl
  | i + 1 => by
    have := sh_F_rg f x us i
    unfold sh_F
    split <;> omega
abbrev gl_S : Type := (Nat → Int) × Int
def gl_h (f : Nat → Int) (l : Int) : Nat → gl_S → gl_S
  | 0, s => s
  | k + 1, s => if (ya_n f k : Int) = l ∧ sh_F f k (gl_h f l k s).1 4 ≠ -1 then (va_up (gl_h f l k s).1 (sh_F f k (gl_h f l k s).1 4).toNat 1, (gl_h f l k s).2 + 1) else gl_h f l k s
def gl_l (f : Nat → Int) : Nat → gl_S
  | 0 => (fun _ => 0, 0)
  | j + 1 => gl_h f (2 + j : Nat) (f 0).toNat (gl_l f j)
section SLIPS
variable {G : pb_G} {K : co_K} {h : pb_H} {A : Nat → Nat} {f : Nat → Int} {t b : Nat}
theorem yd_mostOnSlips (hG : co_G G K) (hW : yd_W K h A f) (ok : ya_ok t f) : pb_Ctr G mX2_mostOnSlips 11 3 12 [pb_r (A 0)] h (fr_Q (some (pb_i (km f (f 0).toNat).2)) h) := by
  refine pb_Ctr.of rfl rfl rfl tX2_mostOnSlips_ok rfl ?_
  (try refine pb_Ex.run rfl ?_)
  refine pb_Ex.fin (fun hf => ?_)
  refine pb_Ex.new 9 4 RX11 TX11 [pb_0, pb_0, pb_i 0, pb_0] rfl rfl rfl rfl (fun j hj => by
    have hj : j < 4 := hj
    match j, hj with
    | 0, _ => rfl
    | 1, _ => rfl
    | 2, _ => rfl
    | 3, _ => rfl) (by omega) (by omega) ?_
  refine pb_Ex.run rfl ?_
  refine pb_Ex.cIo rfl rfl rfl rfl (kf_init (K := K) (h0 := h) (A := A) (f := f) hG hf hW ok pb_new_same (Nat.le_refl _) (fr_x.rf.nw hf _)) (by omega) (by omega) (by omega) (fun h1 e1 => ?_)
  obtain ⟨a, b, M⟩ := e1
  (try refine pb_Ex.run rfl ?_)
  refine pb_Ex.getf rfl rfl M.1 rfl ?_
  (try refine pb_Ex.run rfl ?_)
  refine pb_Ex.iret rfl rfl (by omega) (by omega) (⟨rfl, M.2.2.2.2⟩)
theorem yd_shortestFor (hG : co_G G K) (hW : yd_W K h A f) (ok : ya_ok t f) (x : Nat) (hx : x < (f 0).toNat) (us : Nat → Int) (hb : h.2 b = some (pb_aI 1 4 us)) (hus : ∀ j, us j = 0 ∨ us j = 1) : pb_Ctr G mX2_shortestFor 4 0 0 [pb_r (A 0), pb_i x, pb_r b] h (pb_P (some (pb_i (sh_F f x us 4))) h) := by
  have hm := ok.num
  obtain ⟨c, k6, k7⟩ := hW.2.2.2.2.2.1
  refine pb_Ctr.of rfl rfl rfl tX2_shortestFor_ok rfl ?_
  (try refine pb_Ex.run rfl ?_)
  have loop : ∀ (d i : Nat) (z w : Int), i + d = 4 → z = i → w = sh_F f x us i → pb_Ex G mX2_shortestFor 4 0 0 (pb_P (some (pb_i (sh_F f x us 4))) h) 0 0 5 [some (pb_r (A 0)), some (pb_i x), some (pb_r b), some (pb_i w), some (pb_i z)] [] h := by
    intro d
    induction d with
    | zero =>
      intro i z w hi hz hw
      have ei : i = 4 := by omega
      subst ei
      refine pb_Ex.run rfl ?_
      refine pb_Ex.icmpT rfl (by omega) (by omega) (by first | decide | (simp only [pb_cmp]; omega) | simp [pb_cmp]) ?_
      (try refine pb_Ex.run rfl ?_)
      rw [hw]
      refine pb_Ex.iret rfl rfl (by omega) (by omega) (⟨rfl, rfl⟩)
    | succ d ih =>
      intro i z w hi hz hw
      subst hz
      have rg := sh_F_rg f x us i
      rw [← hw] at rg
      have si := ok.sli (i := i) (by omega)
      have eS : sh_F f x us (i + 1) = if us i = 0 ∧ (f (21 + 28 * x) = 0 ∧ 2 ≤ f (22 + 28 * x) ∧ f (22 + 28 * x) ≤ f (17 + i)) ∧ (sh_F f x us i = -1 ∨ f (17 + i) < f (17 + (sh_F f x us i).toNat)) then (i : Int) else sh_F f x us i := rfl
      rw [← hw] at eS
      refine pb_Ex.run rfl ?_
      refine pb_Ex.icmpF rfl (by omega) (by omega) (by first | decide | (simp only [pb_cmp]; omega) | simp [pb_cmp]) ?_
      (try refine pb_Ex.run rfl ?_)
      refine pb_Ex.zat (i) rfl (hb) (by omega) (by omega) ?_
      (try refine pb_Ex.run rfl ?_)
      rcases hus i with c0 | c0
      · rw [c0]
        refine pb_Ex.ifF rfl (by omega) (by first | decide | (simp only [pb_cmp]; omega) | simp [pb_cmp]) ?_
        (try refine pb_Ex.run rfl ?_)
        refine pb_Ex.pV rfl rfl rfl rfl (hW.1) rfl rfl (yd_fits hG hW ok x i hx (by omega)) (by omega) (by omega) (by omega) ?_
        (try refine pb_Ex.run rfl ?_)
        by_cases c1 : f (21 + 28 * x) = 0 ∧ 2 ≤ f (22 + 28 * x) ∧ f (22 + 28 * x) ≤ f (17 + i)
        · rw [if_pos c1]
          refine pb_Ex.ifT rfl (by omega) (by first | decide | (simp only [pb_cmp]; omega) | simp [pb_cmp]) ?_
          (try refine pb_Ex.run rfl ?_)
          by_cases c2 : w = -1
          · refine pb_Ex.icmpT rfl (by omega) (by omega) (by first | decide | (simp only [pb_cmp]; omega) | simp [pb_cmp]) ?_
            (try refine pb_Ex.run rfl ?_)
            exact ih (i + 1) _ _ (by omega) (by omega) (by rw [eS, if_pos ⟨c0, c1, Or.inl c2⟩])
          · obtain ⟨q, rfl⟩ : ∃ q : Nat, w = q := ⟨w.toNat, by omega⟩
            rw [Int.toNat_natCast] at eS
            have sq := ok.sli (i := q) (by omega)
            refine pb_Ex.icmpF rfl (by omega) (by omega) (by first | decide | (simp only [pb_cmp]; omega) | simp [pb_cmp]) ?_
            (try refine pb_Ex.run rfl ?_)
            refine pb_Ex.getf rfl rfl hW.1 rfl ?_
            (try refine pb_Ex.run rfl ?_)
            refine pb_Ex.iat (i) rfl (k6) (by omega) (by omega) ?_
            (try refine pb_Ex.run rfl ?_)
            rw [k7 i (by omega)]
            refine pb_Ex.getf rfl rfl hW.1 rfl ?_
            (try refine pb_Ex.run rfl ?_)
            refine pb_Ex.iat (q) rfl (k6) (by omega) (by omega) ?_
            (try refine pb_Ex.run rfl ?_)
            rw [k7 q (by omega)]
            refine pb_Ex.icmp_ge rfl (by omega) (by omega) (fun c3 => ?_) (fun c3 => ?_)
            · refine pb_Ex.run rfl ?_
              exact ih (i + 1) _ _ (by omega) (by omega) (by rw [eS, if_neg (fun z => by rcases z.2.2 with z | z <;> omega)])
            · refine pb_Ex.run rfl ?_
              exact ih (i + 1) _ _ (by omega) (by omega) (by rw [eS, if_pos ⟨c0, c1, Or.inr (by omega)⟩])
        · rw [if_neg c1]
          refine pb_Ex.ifF rfl (by omega) (by first | decide | (simp only [pb_cmp]; omega) | simp [pb_cmp]) ?_
          (try refine pb_Ex.run rfl ?_)
          exact ih (i + 1) _ _ (by omega) (by omega) (by rw [eS, if_neg (fun z => c1 z.2.1)])
      · rw [c0]
        refine pb_Ex.ifT rfl (by omega) (by first | decide | (simp only [pb_cmp]; omega) | simp [pb_cmp]) ?_
        (try refine pb_Ex.run rfl ?_)
        exact ih (i + 1) _ _ (by omega) (by omega) (by rw [eS, if_neg (fun z => by omega)])
  exact loop 4 0 0 (-1) (by omega) rfl rfl
theorem gl_h01 {f : Nat → Int} {l : Int} : ∀ (k : Nat) (s : gl_S), (∀ j, s.1 j = 0 ∨ s.1 j = 1) → ∀ j, (gl_h f l k s).1 j = 0 ∨ (gl_h f l k s).1 j = 1
  | 0, _, h => h
  | k + 1, s, h => fun j => by
    have ih := gl_h01 (f := f) (l := l) k s h
    unfold gl_h
    split
    · show va_up _ _ _ _ = 0 ∨ va_up _ _ _ _ = 1
      unfold va_up
      split
      · exact Or.inr rfl
      · exact ih j
    · exact ih j
theorem gl_l01 {f : Nat → Int} : ∀ (j : Nat) (i : Nat), (gl_l f j).1 i = 0 ∨ (gl_l f j).1 i = 1
  | 0, _ => Or.inl rfl
  | j + 1, i => gl_h01 _ _ (gl_l01 j) i
theorem yd_byLengths (hG : co_G G K) (hW : yd_W K h A f) (ok : ya_ok t f) : pb_Ctr G mX2_mostOnSlipsByLengths 5 1 4 [pb_r (A 0)] h (fr_Q (some (pb_i (gl_l f 7).2)) h) := by
  have hm := ok.num
  refine pb_Ctr.of rfl rfl rfl tX2_mostOnSlipsByLengths_ok rfl ?_
  (try refine pb_Ex.run rfl ?_)
  refine pb_Ex.fin (fun hf => ?_)
  refine pb_Ex.newZ 4 rfl rfl (by omega) (by omega) (by omega) ?_
  (try refine pb_Ex.run rfl ?_)
  have x1 : fr_x h (pb_new h (pb_aI 1 4 fun _ => 0)) := fr_x.rf.nw hf _
  have b1 : (pb_new h (pb_aI 1 4 fun _ => 0)).2 h.1 = some (pb_aI 1 4 (gl_l f 0).1) := pb_new_same
  generalize pb_new h (pb_aI 1 4 fun _ => 0) = h1 at x1 b1 ⊢
  have outer : ∀ (d j : Nat) (z w : Int) (h2 : pb_H) (y4 y5 : Option pb_V), j + d = 7 → z = 2 + j → w = (gl_l f j).2 → fr_x h h2 → h2.2 h.1 = some (pb_aI 1 4 (gl_l f j).1) → pb_Ex G mX2_mostOnSlipsByLengths 5 1 4 (fr_Q (some (pb_i (gl_l f 7).2)) h) 1 4 8 [some (pb_r (A 0)), some (pb_r h.1), some (pb_i w), some (pb_i z), y4, y5] [] h2 := by
    intro d
    induction d with
    | zero =>
      intro j z w h2 y4 y5 hj hz hw hx hb
      have ej : j = 7 := by omega
      subst ej
      refine pb_Ex.run rfl ?_
      refine pb_Ex.icmpT rfl (by omega) (by omega) (by first | decide | (simp only [pb_cmp]; omega) | simp [pb_cmp]) ?_
      (try refine pb_Ex.run rfl ?_)
      rw [hw]
      refine pb_Ex.iret rfl rfl (by omega) (by omega) (⟨rfl, hx⟩)
    | succ d ih =>
      intro j z w h2 y4 y5 hj hz hw hx hb
      subst hz
      refine pb_Ex.run rfl ?_
      refine pb_Ex.icmpF rfl (by omega) (by omega) (by first | decide | (simp only [pb_cmp]; omega) | simp [pb_cmp]) ?_
      (try refine pb_Ex.run rfl ?_)
      have inner : ∀ (d2 k : Nat) (z2 w2 : Int) (h3 : pb_H) (y5 : Option pb_V), k + d2 = (f 0).toNat → z2 = k → w2 = (gl_h f (2 + j : Nat) k (gl_l f j)).2 → fr_x h h3 → h3.2 h.1 = some (pb_aI 1 4 (gl_h f (2 + j : Nat) k (gl_l f j)).1) → pb_Ex G mX2_mostOnSlipsByLengths 5 1 4 (fr_Q (some (pb_i (gl_l f 7).2)) h) 1 4 17 [some (pb_r (A 0)), some (pb_r h.1), some (pb_i w2), some (pb_i (2 + (j : Int))), some (pb_i z2), y5] [] h3 := by
        intro d2
        induction d2 with
        | zero =>
          intro k z2 w2 h3 y5 hk hz2 hw2 hx3 hb3
          have ek : k = (f 0).toNat := by omega
          subst ek
          have hW3 := hW.x hx3
          obtain ⟨mc, ho⟩ := hW3.2.1.obj
          refine pb_Ex.run rfl ?_
          refine pb_Ex.getf rfl rfl hW3.1 rfl ?_
          (try refine pb_Ex.run rfl ?_)
          refine pb_Ex.pV rfl rfl rfl rfl (ho) rfl rfl (ja_size hW3.2.1) (by omega) (by omega) (by omega) ?_
          (try refine pb_Ex.run rfl ?_)
          refine pb_Ex.icmpT rfl (by omega) (by omega) (by first | decide | (simp only [pb_cmp]; omega) | simp [pb_cmp]) ?_
          (try refine pb_Ex.run rfl ?_)
          exact ih (j + 1) _ _ h3 _ _ (by omega) (by omega) hw2 hx3 hb3
        | succ d2 ih2 =>
          intro k z2 w2 h3 y5 hk hz2 hw2 hx3 hb3
          subst hz2
          have hW3 := hW.x hx3
          obtain ⟨mc, ho⟩ := hW3.2.1.obj
          have hh := hW3.2.2.1 k (by omega)
          have n8 := ok.n8 k (by omega)
          have us := gl_h01 (f := f) (l := ((2 + j : Nat) : Int)) k (gl_l f j) (gl_l01 j)
          have eS : gl_h f (2 + j : Nat) (k + 1) (gl_l f j) = if (ya_n f k : Int) = ((2 + j : Nat) : Int) ∧ sh_F f k (gl_h f (2 + j : Nat) k (gl_l f j)).1 4 ≠ -1 then (va_up (gl_h f (2 + j : Nat) k (gl_l f j)).1 (sh_F f k (gl_h f (2 + j : Nat) k (gl_l f j)).1 4).toNat 1, (gl_h f (2 + j : Nat) k (gl_l f j)).2 + 1) else gl_h f (2 + j : Nat) k (gl_l f j) := rfl
          generalize gl_h f (2 + j : Nat) k (gl_l f j) = S3 at *
          have rg := sh_F_rg f k S3.1 4
          refine pb_Ex.run rfl ?_
          refine pb_Ex.getf rfl rfl hW3.1 rfl ?_
          (try refine pb_Ex.run rfl ?_)
          refine pb_Ex.pV rfl rfl rfl rfl (ho) rfl rfl (ja_size hW3.2.1) (by omega) (by omega) (by omega) ?_
          (try refine pb_Ex.run rfl ?_)
          refine pb_Ex.icmpF rfl (by omega) (by omega) (by first | decide | (simp only [pb_cmp]; omega) | simp [pb_cmp]) ?_
          (try refine pb_Ex.run rfl ?_)
          refine pb_Ex.getf rfl rfl hW3.1 rfl ?_
          (try refine pb_Ex.run rfl ?_)
          refine pb_Ex.pV rfl rfl rfl rfl (ho) rfl rfl (ja_get hW3.2.1 k (by omega)) (by omega) (by omega) (by omega) ?_
          (try refine pb_Ex.run rfl ?_)
          refine pb_Ex.cast0 rfl rfl (hh.1) (fun r hr => by cases hr; rfl) ?_
          (try refine pb_Ex.run rfl ?_)
          refine pb_Ex.pV rfl rfl rfl rfl (hh.1) rfl rfl (hu_size hh) (by omega) (by omega) (by omega) ?_
          (try refine pb_Ex.run rfl ?_)
          refine pb_Ex.icmp_ne rfl (by omega) (by omega) (fun c1 => ?_) (fun c1 => ?_)
          · refine pb_Ex.run rfl ?_
            refine pb_Ex.icmpF rfl (by omega) (by omega) (by first | decide | (simp only [pb_cmp]; omega) | simp [pb_cmp]) ?_
            (try refine pb_Ex.run rfl ?_)
            exact ih2 (k + 1) _ _ h3 _ (by omega) (by omega) (by rw [eS, if_neg (fun z => by omega)]; exact hw2) hx3 (by rw [eS, if_neg (fun z => by omega)]; exact hb3)
          · refine pb_Ex.run rfl ?_
            refine pb_Ex.pV rfl rfl rfl rfl (hW3.1) rfl rfl (yd_shortestFor hG hW3 ok k (by omega) S3.1 hb3 us) (by omega) (by omega) (by omega) ?_
            (try refine pb_Ex.run rfl ?_)
            by_cases c2 : sh_F f k S3.1 4 = -1
            · rw [c2]
              refine pb_Ex.icmpF rfl (by omega) (by omega) (by first | decide | (simp only [pb_cmp]; omega) | simp [pb_cmp]) ?_
              (try refine pb_Ex.run rfl ?_)
              exact ih2 (k + 1) _ _ h3 _ (by omega) (by omega) (by rw [eS, if_neg (fun z => z.2 c2)]; exact hw2) hx3 (by rw [eS, if_neg (fun z => z.2 c2)]; exact hb3)
            · obtain ⟨q, hq⟩ : ∃ q : Nat, sh_F f k S3.1 4 = q := ⟨(sh_F f k S3.1 4).toNat, by omega⟩
              rw [hq]
              refine pb_Ex.icmpT rfl (by omega) (by omega) (by first | decide | (simp only [pb_cmp]; omega) | simp [pb_cmp]) ?_
              (try refine pb_Ex.run rfl ?_)
              refine pb_Ex.zstat (q) rfl (hb3) (by omega) (by omega) (by omega) ?_
              (try refine pb_Ex.run rfl ?_)
              refine ih2 (k + 1) _ _ _ _ (by omega) (by omega) ?_ (hx3.st hf _ (Nat.le_refl _)) ?_
              · rw [eS, if_pos ⟨by omega, c2⟩, hw2]
              · rw [eS, if_pos ⟨by omega, c2⟩, hq, Int.toNat_natCast]
                exact pb_set_same
      exact inner (f 0).toNat 0 0 w h2 _ (by omega) rfl hw hx hb
  exact outer 7 0 2 0 h1 _ _ (by omega) rfl rfl x1 b1
end SLIPS
