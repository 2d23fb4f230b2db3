set_option maxRecDepth 100000
/-- the best of the orders below j that aren't taken -/
def tb_s (f : Nat → Int) (n : Int) (tk : Nat → Int) : Nat → Int
  | 0 => -1
  | j + 1 => if tk j = 0 ∧ f (190 + 4 * j) = n ∧ (tb_s f n tk j = -1 ∨ sp_coins f (tb_s f n tk j).toNat < sp_coins f j) then j else tb_s f n tk j
theorem tb_s_rg (f : Nat → Int) (n : Int) (tk : Nat → Int) : ∀ j : Nat, tb_s f n tk j = -1 ∨ (0 ≤ tb_s f n tk j ∧ tb_s f n tk j < j)
  | 0 => Or.inl rfl
  | j + 1 => by
    have := tb_s_rg f n tk j
    unfold tb_s
    split <;> omega
/-- behind r takings: what is taken, the coins -/
def bd_t (f : Nat → Int) (n : Int) : Nat → (Nat → Int) × Int
  | 0 => (fun _ => 0, 0)
  | r + 1 => if tb_s f n (bd_t f n r).1 (f 2).toNat = -1 then bd_t f n r else (va_up (bd_t f n r).1 (tb_s f n (bd_t f n r).1 (f 2).toNat).toNat 1, (bd_t f n r).2 + sp_coins f (tb_s f n (bd_t f n r).1 (f 2).toNat).toNat)
def bd_a (f : Nat → Int) : Nat → Int
  | 0 => 0
  | j + 1 => bd_a f j + (bd_t f (2 + j : Nat) (ya_sum (ya_afl f (2 + j : Nat)) (f 0).toNat).toNat).2
section BEST
variable {G : pb_G} {K : co_K} {h : pb_H} {A : Nat → Nat} {f : Nat → Int} {t b : Nat}
theorem yd_afloatWith (hG : co_G G K) (hW : yd_W K h A f) (ok : ya_ok t f) (n : Int) (hn : pb_rg n) : pb_Ctr G mX2_afloatWith 3 0 0 [pb_r (A 0), pb_i n] h (pb_P (some (pb_i (ya_sum (ya_afl f n) (f 0).toNat))) h) := by
  have hm := ok.num
  obtain ⟨mc, ho⟩ := hW.2.1.obj
  refine pb_Ctr.of rfl rfl rfl tX2_afloatWith_ok rfl ?_
  (try refine pb_Ex.run rfl ?_)
  have loop : ∀ (d j : Nat) (z w : Int), j + d = (f 0).toNat → z = j → w = ya_sum (ya_afl f n) j → pb_Ex G mX2_afloatWith 3 0 0 (pb_P (some (pb_i (ya_sum (ya_afl f n) (f 0).toNat))) h) 0 0 4 [some (pb_r (A 0)), some (pb_i n), some (pb_i w), some (pb_i z)] [] h := by
    intro d
    induction d with
    | zero =>
      intro j z w hj hz hw
      have ej : j = (f 0).toNat := by omega
      subst ej
      refine pb_Ex.run rfl ?_
      refine pb_Ex.getf rfl rfl hW.1 rfl ?_
      (try refine pb_Ex.run rfl ?_)
      refine pb_Ex.pV rfl rfl rfl rfl (ho) rfl rfl (ja_size hW.2.1) (by omega) (by omega) (by omega) ?_
      (try refine pb_Ex.run rfl ?_)
      refine pb_Ex.icmpT rfl (by omega) (by omega) (by first | decide | (simp only [pb_cmp]; omega) | simp [pb_cmp]) ?_
      (try refine pb_Ex.run rfl ?_)
      rw [hw]
      refine pb_Ex.iret rfl rfl (by omega) (by omega) (⟨rfl, rfl⟩)
    | succ d ih =>
      intro j z w hj hz hw
      subst hz
      have hh := hW.2.2.1 j (by omega)
      have oh := ok.hu2 (k := j) (by omega)
      have hnn := oh.nn
      refine pb_Ex.run rfl ?_
      refine pb_Ex.getf rfl rfl hW.1 rfl ?_
      (try refine pb_Ex.run rfl ?_)
      refine pb_Ex.pV rfl rfl rfl rfl (ho) rfl rfl (ja_size hW.2.1) (by omega) (by omega) (by omega) ?_
      (try refine pb_Ex.run rfl ?_)
      refine pb_Ex.icmpF rfl (by omega) (by omega) (by first | decide | (simp only [pb_cmp]; omega) | simp [pb_cmp]) ?_
      (try refine pb_Ex.run rfl ?_)
      refine pb_Ex.getf rfl rfl hW.1 rfl ?_
      (try refine pb_Ex.run rfl ?_)
      refine pb_Ex.pV rfl rfl rfl rfl (ho) rfl rfl (ja_get hW.2.1 j (by omega)) (by omega) (by omega) (by omega) ?_
      (try refine pb_Ex.run rfl ?_)
      refine pb_Ex.cast0 rfl rfl (hh.1) (fun r hr => by cases hr; rfl) ?_
      (try refine pb_Ex.run rfl ?_)
      refine pb_Ex.gets rfl (hG.2.2.2.2.1 1 (by omega)).1 q392 ?_
      (try refine pb_Ex.run rfl ?_)
      refine pb_Ex.pV rfl rfl rfl rfl (hh.1) rfl rfl (hu_is hG hh oh 1 (by omega)) (by omega) (by omega) (by omega) ?_
      (try refine pb_Ex.run rfl ?_)
      by_cases c : f (21 + 28 * j) = 1
      · rw [if_pos (show f (21 + 28 * j) = (1 : Nat) from c)]
        refine pb_Ex.ifF rfl (by omega) (by first | decide | (simp only [pb_cmp]; omega) | simp [pb_cmp]) ?_
        (try refine pb_Ex.run rfl ?_)
        refine pb_Ex.getf rfl rfl hW.1 rfl ?_
        (try refine pb_Ex.run rfl ?_)
        refine pb_Ex.pV rfl rfl rfl rfl (ho) rfl rfl (ja_get hW.2.1 j (by omega)) (by omega) (by omega) (by omega) ?_
        (try refine pb_Ex.run rfl ?_)
        refine pb_Ex.cast0 rfl rfl (hh.1) (fun r hr => by cases hr; rfl) ?_
        (try refine pb_Ex.run rfl ?_)
        refine pb_Ex.pV rfl rfl rfl rfl (hh.1) rfl rfl (hu_size hh) (by omega) (by omega) (by omega) ?_
        (try refine pb_Ex.run rfl ?_)
        refine pb_Ex.icmp_ne rfl (by omega) (by omega) (fun c2 => ?_) (fun c2 => ?_)
        · refine pb_Ex.run rfl ?_
          exact ih (j + 1) _ _ (by omega) (by omega) (by rw [ya_sum_s, hw]; unfold ya_afl; rw [if_neg (by omega)])
        · refine pb_Ex.run rfl ?_
          exact ih (j + 1) _ _ (by omega) (by omega) (by rw [ya_sum_s, hw]; unfold ya_afl; rw [if_pos (by omega)])
      · rw [if_neg (show ¬ f (21 + 28 * j) = (1 : Nat) from c)]
        refine pb_Ex.ifT rfl (by omega) (by first | decide | (simp only [pb_cmp]; omega) | simp [pb_cmp]) ?_
        (try refine pb_Ex.run rfl ?_)
        exact ih (j + 1) _ _ (by omega) (by omega) (by rw [ya_sum_s, hw]; unfold ya_afl; rw [if_neg (by omega)])
  exact loop (f 0).toNat 0 0 0 (by omega) rfl rfl
theorem yd_takeBest (hG : co_G G K) (hW : yd_W K h A f) (ok : ya_ok t f) (n : Int) (hn : pb_rg n) (tk : Nat → Int) (hb : h.2 b = some (pb_aI 1 (f 2).toNat tk)) (htk : ∀ j, tk j = 0 ∨ tk j = 1) : pb_Ctr G mX2_takeBest 3 0 0 [pb_r (A 0), pb_i n, pb_r b] h (fun oc h' => oc = .inl (some (pb_i (if tb_s f n tk (f 2).toNat = -1 then 0 else sp_coins f (tb_s f n tk (f 2).toNat).toNat))) ∧ h'.1 = h.1 ∧ h'.2 b = some (pb_aI 1 (f 2).toNat (if tb_s f n tk (f 2).toNat = -1 then tk else va_up tk (tb_s f n tk (f 2).toNat).toNat 1)) ∧ ∀ x, x ≠ b → h'.2 x = h.2 x) := by
  have hm := ok.num
  obtain ⟨g, hO1, hO2⟩ := hW.2.2.2.1
  obtain ⟨mc, ho⟩ := hO1.obj
  have coin : ∀ j, j < (f 2).toNat → (max 0 (f (192 + 4 * j) - max 0 (f 1 - f (191 + 4 * j))) = sp_coins f j ∧ 0 ≤ sp_coins f j ∧ sp_coins f j ≤ 999) := fun j hj => ⟨rfl, sp_coins_rg ok (by omega) (by omega)⟩
  refine pb_Ctr.of rfl rfl rfl tX2_takeBest_ok rfl ?_
  (try refine pb_Ex.run rfl ?_)
  have loop : ∀ (d j : Nat) (z w : Int), j + d = (f 2).toNat → z = j → w = tb_s f n tk j → pb_Ex G mX2_takeBest 3 0 0 (fun oc h' => oc = .inl (some (pb_i (if tb_s f n tk (f 2).toNat = -1 then 0 else sp_coins f (tb_s f n tk (f 2).toNat).toNat))) ∧ h'.1 = h.1 ∧ h'.2 b = some (pb_aI 1 (f 2).toNat (if tb_s f n tk (f 2).toNat = -1 then tk else va_up tk (tb_s f n tk (f 2).toNat).toNat 1)) ∧ ∀ x, x ≠ b → h'.2 x = h.2 x) 0 0 5 [some (pb_r (A 0)), some (pb_i n), some (pb_r b), some (pb_i w), some (pb_i z)] [] h := by
    intro d
    induction d with
    | zero =>
      intro j z w hj hz hw
      have ej : j = (f 2).toNat := by omega
      subst ej
      have rg := tb_s_rg f n tk (f 2).toNat
      rw [← hw] at rg
      refine pb_Ex.run rfl ?_
      refine pb_Ex.getf rfl rfl hW.1 rfl ?_
      (try refine pb_Ex.run rfl ?_)
      refine pb_Ex.pV rfl rfl rfl rfl (ho) rfl rfl (ja_size hO1) (by omega) (by omega) (by omega) ?_
      (try refine pb_Ex.run rfl ?_)
      refine pb_Ex.icmpT rfl (by omega) (by omega) (by first | decide | (simp only [pb_cmp]; omega) | simp [pb_cmp]) ?_
      (try refine pb_Ex.run rfl ?_)
      rw [← hw]
      by_cases c : w = -1
      · rw [if_pos c, if_pos c]
        refine pb_Ex.icmpF rfl (by omega) (by omega) (by first | decide | (simp only [pb_cmp]; omega) | simp [pb_cmp]) ?_
        (try refine pb_Ex.run rfl ?_)
        refine pb_Ex.iret rfl rfl (by omega) (by omega) (⟨rfl, rfl, hb, fun _ _ => rfl⟩)
      · rw [if_neg c, if_neg c]
        obtain ⟨q, rfl⟩ : ∃ q : Nat, w = q := ⟨w.toNat, by omega⟩
        rw [Int.toNat_natCast]
        have hq : q < (f 2).toNat := by omega
        have oq := ok.ord (k := q) (by omega) (by omega)
        have cq := coin q hq
        have nb : ∀ y c, h.2 y = some c → (∀ N g, c ≠ pb_aI 1 N g) → y ≠ b := fun y c hy hc e => by
          rw [e, hb] at hy
          cases hy
          exact hc _ _ rfl
        refine pb_Ex.icmpT rfl (by omega) (by omega) (by first | decide | (simp only [pb_cmp]; omega) | simp [pb_cmp]) ?_
        (try refine pb_Ex.run rfl ?_)
        refine pb_Ex.zstat (q) rfl (hb) (by omega) (by omega) (by omega) ?_
        (try refine pb_Ex.run rfl ?_)
        have X : ∀ y c, h.2 y = some c → (∀ N g, c ≠ pb_aI 1 N g) → (pb_set h b (pb_aI 1 (f 2).toNat (va_up tk q 1))).2 y = some c := fun y c hy hc => by rw [pb_set_ne (nb y c hy hc)]; exact hy
        have L2 : al_W K (pb_set h b (pb_aI 1 (f 2).toNat (va_up tk q 1))) (A 2) (A 6) (f 2).toNat g := by
          obtain ⟨m1, m2, m3, m4, m5, m6, m7, m8, m9⟩ := hO1
          refine ⟨m1, m2, m3, X _ _ m4 (fun N g z => by cases z), X _ _ m5 (fun N g z => by cases z), m6, m7, m8, fun j hj => ⟨(m9 j hj).1, 8, _, by decide, X _ _ (hO2 j hj) (fun N g z => by cases z)⟩⟩
        have y2 := X _ _ hW.1 (fun N g z => by cases z)
        have o2 := X _ _ ho (fun N g z => by cases z)
        have q2 := X _ _ (hO2 q hq) (fun N g z => by cases z)
        refine pb_Ex.getf rfl rfl y2 rfl ?_
        (try refine pb_Ex.run rfl ?_)
        refine pb_Ex.pV rfl rfl rfl rfl (o2) rfl rfl (ja_get L2 q hq) (by omega) (by omega) (by omega) ?_
        (try refine pb_Ex.run rfl ?_)
        refine pb_Ex.cast0 rfl rfl (q2) (fun r hr => by cases hr; rfl) ?_
        (try refine pb_Ex.run rfl ?_)
        refine pb_Ex.getf rfl rfl y2 rfl ?_
        (try refine pb_Ex.run rfl ?_)
        refine pb_Ex.pV rfl rfl rfl rfl (q2) rfl rfl (or_coins q2 (f 1) (by omega) (by omega) (by omega)) (by omega) (by omega) (by omega) ?_
        (try refine pb_Ex.run rfl ?_)
        rw [cq.1]
        refine pb_Ex.iret rfl rfl (by omega) (by omega) (⟨rfl, rfl, pb_set_same, fun x hx => pb_set_ne hx⟩)
    | succ d ih =>
      intro j z w hj hz hw
      subst hz
      have hjm : j < (f 2).toNat := by omega
      have oj := ok.ord (k := j) (by omega) (by omega)
      have cj := coin j hjm
      have rg := tb_s_rg f n tk j
      rw [← hw] at rg
      have eS : tb_s f n tk (j + 1) = if tk j = 0 ∧ f (190 + 4 * j) = n ∧ (tb_s f n tk j = -1 ∨ sp_coins f (tb_s f n tk j).toNat < sp_coins f j) then (j : Int) else tb_s f n tk j := rfl
      rw [← hw] at eS
      refine pb_Ex.run rfl ?_
      refine pb_Ex.getf rfl rfl hW.1 rfl ?_
      (try refine pb_Ex.run rfl ?_)
      refine pb_Ex.pV rfl rfl rfl rfl (ho) rfl rfl (ja_size hO1) (by omega) (by omega) (by omega) ?_
      (try refine pb_Ex.run rfl ?_)
      refine pb_Ex.icmpF rfl (by omega) (by omega) (by first | decide | (simp only [pb_cmp]; omega) | simp [pb_cmp]) ?_
      (try refine pb_Ex.run rfl ?_)
      refine pb_Ex.zat (j) rfl (hb) (by omega) (by omega) ?_
      (try refine pb_Ex.run rfl ?_)
      rcases htk j with c0 | c0
      · rw [c0]
        refine pb_Ex.ifF rfl (by omega) (by first | decide | (simp only [pb_cmp]; omega) | simp [pb_cmp]) ?_
        (try refine pb_Ex.run rfl ?_)
        refine pb_Ex.getf rfl rfl hW.1 rfl ?_
        (try refine pb_Ex.run rfl ?_)
        refine pb_Ex.pV rfl rfl rfl rfl (ho) rfl rfl (ja_get hO1 j hjm) (by omega) (by omega) (by omega) ?_
        (try refine pb_Ex.run rfl ?_)
        refine pb_Ex.cast0 rfl rfl ((hO2 j hjm)) (fun r hr => by cases hr; rfl) ?_
        (try refine pb_Ex.run rfl ?_)
        refine pb_Ex.getf rfl rfl (hO2 j hjm) rfl ?_
        (try refine pb_Ex.run rfl ?_)
        refine pb_Ex.icmp_eq rfl (by omega) (by omega) (fun c1 => ?_) (fun c1 => ?_)
        · refine pb_Ex.run rfl ?_
          by_cases c2 : w = -1
          · refine pb_Ex.icmpT rfl (by omega) (by omega) (by first | decide | (simp only [pb_cmp]; omega) | simp [pb_cmp]) ?_
            (try refine pb_Ex.run rfl ?_)
            exact ih (j + 1) _ _ (by omega) (by omega) (by rw [eS, if_pos ⟨c0, c1, Or.inl c2⟩])
          · obtain ⟨q, rfl⟩ : ∃ q : Nat, w = q := ⟨w.toNat, by omega⟩
            rw [Int.toNat_natCast] at eS
            have hq : q < (f 2).toNat := by omega
            have oq := ok.ord (k := q) (by omega) (by omega)
            have cq := coin q hq
            refine pb_Ex.icmpF rfl (by omega) (by omega) (by first | decide | (simp only [pb_cmp]; omega) | simp [pb_cmp]) ?_
            (try refine pb_Ex.run rfl ?_)
            refine pb_Ex.getf rfl rfl hW.1 rfl ?_
            (try refine pb_Ex.run rfl ?_)
            refine pb_Ex.pV rfl rfl rfl rfl (ho) rfl rfl (ja_get hO1 j hjm) (by omega) (by omega) (by omega) ?_
            (try refine pb_Ex.run rfl ?_)
            refine pb_Ex.cast0 rfl rfl ((hO2 j hjm)) (fun r hr => by cases hr; rfl) ?_
            (try refine pb_Ex.run rfl ?_)
            refine pb_Ex.getf rfl rfl hW.1 rfl ?_
            (try refine pb_Ex.run rfl ?_)
            refine pb_Ex.pV rfl rfl rfl rfl ((hO2 j hjm)) rfl rfl (or_coins (hO2 j hjm) (f 1) (by omega) (by omega) (by omega)) (by omega) (by omega) (by omega) ?_
            (try refine pb_Ex.run rfl ?_)
            refine pb_Ex.getf rfl rfl hW.1 rfl ?_
            (try refine pb_Ex.run rfl ?_)
            refine pb_Ex.pV rfl rfl rfl rfl (ho) rfl rfl (ja_get hO1 q hq) (by omega) (by omega) (by omega) ?_
            (try refine pb_Ex.run rfl ?_)
            refine pb_Ex.cast0 rfl rfl ((hO2 q hq)) (fun r hr => by cases hr; rfl) ?_
            (try refine pb_Ex.run rfl ?_)
            refine pb_Ex.getf rfl rfl hW.1 rfl ?_
            (try refine pb_Ex.run rfl ?_)
            refine pb_Ex.pV rfl rfl rfl rfl ((hO2 q hq)) rfl rfl (or_coins (hO2 q hq) (f 1) (by omega) (by omega) (by omega)) (by omega) (by omega) (by omega) ?_
            (try refine pb_Ex.run rfl ?_)
            rw [cj.1, cq.1]
            refine pb_Ex.icmp_le rfl (by omega) (by omega) (fun c3 => ?_) (fun c3 => ?_)
            · refine pb_Ex.run rfl ?_
              exact ih (j + 1) _ _ (by omega) (by omega) (by rw [eS, if_neg (fun z => by rcases z.2.2 with z | z <;> omega)])
            · refine pb_Ex.run rfl ?_
              exact ih (j + 1) _ _ (by omega) (by omega) (by rw [eS, if_pos ⟨c0, c1, Or.inr (by omega)⟩])
        · refine pb_Ex.run rfl ?_
          exact ih (j + 1) _ _ (by omega) (by omega) (by rw [eS, if_neg (fun z => c1 z.2.1)])
      · rw [c0]
        refine pb_Ex.ifT rfl (by omega) (by first | decide | (simp only [pb_cmp]; omega) | simp [pb_cmp]) ?_
        (try refine pb_Ex.run rfl ?_)
        exact ih (j + 1) _ _ (by omega) (by omega) (by rw [eS, if_neg (fun z => by omega)])
  exact loop (f 2).toNat 0 0 (-1) (by omega) rfl rfl
theorem bd_t01 (f : Nat → Int) (n : Int) : ∀ r j, (bd_t f n r).1 j = 0 ∨ (bd_t f n r).1 j = 1
  | 0, _ => Or.inl rfl
  | r + 1, j => by
    have ih := bd_t01 f n r
    unfold bd_t
    split
    · exact ih j
    · show va_up _ _ _ _ = 0 ∨ va_up _ _ _ _ = 1
      unfold va_up
      split
      · exact Or.inr rfl
      · exact ih j
theorem yd_bestDelivery (hG : co_G G K) (hW : yd_W K h A f) (ok : ya_ok t f) : pb_Ctr G mX2_bestDelivery 4 7 42 [pb_r (A 0)] h (fr_Q (some (pb_i (bd_a f 7))) h) := by
  have hm := ok.num
  refine pb_Ctr.of rfl rfl rfl tX2_bestDelivery_ok rfl ?_
  (try refine pb_Ex.run rfl ?_)
  refine pb_Ex.fin (fun hf => ?_)
  have loop : ∀ (d j : Nat) (z w : Int) (h2 : pb_H) (cc uu : Nat) (y3 y4 : Option pb_V), j + d = 7 → z = 2 + j → w = bd_a f j → fr_x h h2 → cc + d ≤ 7 → uu + 6 * d ≤ 42 → pb_Ex G mX2_bestDelivery 4 7 42 (fr_Q (some (pb_i (bd_a f 7))) h) cc uu 4 [some (pb_r (A 0)), some (pb_i w), some (pb_i z), y3, y4] [] h2 := by
    intro d
    induction d with
    | zero =>
      intro j z w h2 cc uu y3 y4 hj hz hw hx hc hu
      have ej : j = 7 := by omega
      subst ej
      refine pb_Ex.run rfl ?_
      refine pb_Ex.icmpT rfl (by omega) (by omega) (by first | decide | (simp only [pb_cmp]; omega) | simp [pb_cmp]) ?_
      (try refine pb_Ex.run rfl ?_)
      rw [hw]
      refine pb_Ex.iret rfl rfl (by omega) (by omega) (⟨rfl, hx⟩)
    | succ d ih =>
      intro j z w h2 cc uu y3 y4 hj hz hw hx hc hu
      subst hz
      have hW2 := hW.x hx
      obtain ⟨g, hO1, hO2⟩ := hW2.2.2.2.1
      obtain ⟨mc, ho⟩ := hO1.obj
      refine pb_Ex.fin (fun hf2 => ?_)
      refine pb_Ex.run rfl ?_
      refine pb_Ex.icmpF rfl (by omega) (by omega) (by first | decide | (simp only [pb_cmp]; omega) | simp [pb_cmp]) ?_
      (try refine pb_Ex.run rfl ?_)
      refine pb_Ex.getf rfl rfl hW2.1 rfl ?_
      (try refine pb_Ex.run rfl ?_)
      refine pb_Ex.pV rfl rfl rfl rfl (ho) rfl rfl (ja_size hO1) (by omega) (by omega) (by omega) ?_
      (try refine pb_Ex.run rfl ?_)
      refine pb_Ex.newZ (f 2).toNat rfl rfl (by omega) (by omega) (by omega) ?_
      (try refine pb_Ex.run rfl ?_)
      have x3 : fr_x h2 (pb_new h2 (pb_aI 1 (f 2).toNat (fun _ => 0))) := fr_x.rf.nw hf2 _
      have b3 : (pb_new h2 (pb_aI 1 (f 2).toNat (fun _ => 0))).2 h2.1 = some (pb_aI 1 (f 2).toNat (bd_t f (2 + j : Nat) 0).1) := pb_new_same
      have s3 : h2.1 < (pb_new h2 (pb_aI 1 (f 2).toNat (fun _ => 0))).1 := Nat.lt_succ_self _
      generalize pb_new h2 (pb_aI 1 (f 2).toNat (fun _ => 0)) = h3 at x3 b3 s3 ⊢
      refine pb_Ex.pV rfl rfl rfl rfl ((hW2.x x3).1) rfl rfl (yd_afloatWith hG (hW2.x x3) ok (2 + (j : Int)) (by omega)) (by omega) (by omega) (by omega) ?_
      (try refine pb_Ex.run rfl ?_)
      rw [show (2 : Int) + (j : Int) = ((2 + j : Nat) : Int) by omega]
      have na := ya_sum_le (g := ya_afl f (2 + j : Nat)) (B := 1) (f 0).toNat (fun k hk => by rcases ya_afl01 f ((2 + j : Nat) : Int) k with z | z <;> omega)
      obtain ⟨r, hr⟩ : ∃ r : Nat, ya_sum (ya_afl f (2 + j : Nat)) (f 0).toNat = r := ⟨(ya_sum (ya_afl f (2 + j : Nat)) (f 0).toNat).toNat, by omega⟩
      rw [hr]
      have eA : bd_a f (j + 1) = bd_a f j + (bd_t f (2 + j : Nat) r).2 := by
        show bd_a f j + (bd_t f (2 + j : Nat) (ya_sum (ya_afl f (2 + j : Nat)) (f 0).toNat).toNat).2 = _
        rw [hr, Int.toNat_natCast]
      have inner : ∀ (d2 q : Nat) (w2 z2 : Int) (h4 : pb_H), q + d2 = r → z2 = d2 → w2 = bd_a f j + (bd_t f (2 + j : Nat) q).2 → h4.1 = h3.1 → h4.2 h2.1 = some (pb_aI 1 (f 2).toNat (bd_t f (2 + j : Nat) q).1) → (∀ b, b ≠ h2.1 → h4.2 b = h3.2 b) → pb_Ex G mX2_bestDelivery 4 7 42 (fr_Q (some (pb_i (bd_a f 7))) h) (cc + 0 + 1 + 0) (uu + 0 + (f 2).toNat + 0) 27 [some (pb_r (A 0)), some (pb_i w2), some (pb_i ((2 + j : Nat) : Int)), some (pb_r h2.1), some (pb_i z2)] [] h4 := by
        intro d2
        induction d2 with
        | zero =>
          intro q w2 z2 h4 hq hz2 hw2 s4 b4 x4
          have eq : q = r := by omega
          subst eq
          subst hz2
          refine pb_Ex.run rfl ?_
          refine pb_Ex.ifT rfl (by omega) (by first | decide | (simp only [pb_cmp]; omega) | simp [pb_cmp]) ?_
          (try refine pb_Ex.run rfl ?_)
          refine ih (j + 1) _ _ h4 _ _ _ _ (by omega) (by omega) (by rw [eA, hw2]) (hx.tr ⟨by have := x3.1; omega, fun b c hb _ => ?_⟩) (by omega) (by omega)
          have := hf2 b c hb
          rw [x4 b (by omega)]
          exact x3.at hb
        | succ d2 ih2 =>
          intro q w2 z2 h4 hq hz2 hw2 s4 b4 x4
          have X4 : fr_x h2 h4 := ⟨by have := x3.1; omega, fun b c hb _ => by
            have := hf2 b c hb
            rw [x4 b (by omega)]
            exact x3.at hb⟩
          have hW4 := hW2.x X4
          have eT : bd_t f (2 + j : Nat) (q + 1) = if tb_s f (2 + j : Nat) (bd_t f (2 + j : Nat) q).1 (f 2).toNat = -1 then bd_t f (2 + j : Nat) q else (va_up (bd_t f (2 + j : Nat) q).1 (tb_s f (2 + j : Nat) (bd_t f (2 + j : Nat) q).1 (f 2).toNat).toNat 1, (bd_t f (2 + j : Nat) q).2 + sp_coins f (tb_s f (2 + j : Nat) (bd_t f (2 + j : Nat) q).1 (f 2).toNat).toNat) := rfl
          subst hz2
          refine pb_Ex.run rfl ?_
          refine pb_Ex.ifF rfl (by omega) (by first | decide | (simp only [pb_cmp]; omega) | simp [pb_cmp]) ?_
          (try refine pb_Ex.run rfl ?_)
          refine pb_Ex.cV rfl rfl rfl rfl hW4.1 rfl rfl (yd_takeBest hG hW4 ok (2 + j : Nat) (by omega) (bd_t f (2 + j : Nat) q).1 b4 (bd_t01 f _ q)) ⟨by omega, by omega, by omega⟩ (fun vv h5 hq => ?_) (fun E q9 h5 hq => by cases hq.1)
          obtain ⟨e1, e2, e3, e4⟩ := hq
          cases e1
          (try refine pb_Ex.run rfl ?_)
          refine ih2 (q + 1) _ _ h5 (by omega) (by omega) ?_ (by omega) ?_ (fun b hb => by rw [e4 b hb]; exact x4 b hb)
          · rw [eT, hw2]
            split
            · omega
            · show _ = bd_a f j + ((bd_t f (2 + j : Nat) q).2 + _)
              omega
          · rw [eT, e3]
            split <;> rfl
      exact inner r 0 w r h3 (by omega) rfl (by rw [hw]; show _ = bd_a f j + 0; omega) rfl b3 (fun _ _ => rfl)
  exact loop 7 0 2 0 h _ _ _ _ (by omega) rfl rfl fr_x.rf (by omega) (by omega)
end BEST
