set_option maxRecDepth 100000
/-! LINES: a StringBuilder made within this call -/
/-- a builder made since h0; all of h0 stands -/
def sb_I (G : pb_G) (h0 h : pb_H) (o e : Nat) (P : wr_P) : Prop := sb_W G h o e P.2 P.1 ∧ h0.1 ≤ o ∧ h0.1 ≤ e ∧ fr_x h0 h
theorem sb_I.st {G : pb_G} {h0 h h' : pb_H} {o e n : Nat} {P : wr_P} {s : Nat → Int} (hI : sb_I G h0 h o e P) (hf : fr_fin h0) (hS : sb_St G h o e n s h') : ∃ e', sb_I G h0 h' o e' (s, n) ∧ h'.1 ≤ h.1 + 1 := by
  obtain ⟨k1, k2, k3, k4⟩ := hI
  obtain ⟨e', q1, q2, q3, q4⟩ := hS
  have hh := k4.1
  refine ⟨e', ⟨q1, k2, by omega, ⟨Nat.le_trans k4.1 q4.1, fun b c hb _ => ?_⟩⟩, q3⟩
  have := hf b c hb
  exact q4.2 b c (k4.2 b c hb trivial) ⟨by omega, by omega⟩
section ROWS71
variable {G : pb_G} {M M2 : pb_M} {n C S n2 C2 S2 : Nat} {Q Q2 : pb_O → pb_H → Prop} {k u pc : Nat} {L : List (Option pb_V)} {st a rest : List pb_V} {h : pb_H}
theorem pb_Ex.sbA {nx tg idx o e m' np : Nat} {h0 : pb_H} {As : List pb_V} {P : wr_P} {s' : Nat → Int} (hf : fr_fin h0) (hI : sb_I G h0 h o e P) (hi : pb_ig (pb_tb M) pc = some (.invokevirtual idx, nx, tg)) (hl : pb_lk3 (pb_lt M.1) idx = some (1, M2, np)) (hst : pb_take (np + 1) st [] = some (pb_r o :: As, rest)) (hsm : pb_sm rest = true) (hcl : Nat.beq (pb_clo 14) M2.1 = true) (hcn : M2.2.1.cls = pb_cn M2.1) (hc : pb_Ctr G M2 5 1 400 (pb_r o :: As) h (fun oc h' => oc = .inl (some (pb_r o)) ∧ sb_St G h o e m' s' h')) (hr : 5 < n) (hk9 : k + 1 ≤ C) (hu9 : u + 400 ≤ S) (kk : ∀ (h' : pb_H) (e' : Nat), sb_I G h0 h' o e' (s', m') → h'.1 ≤ h.1 + 1 → pb_Ex G M n C S Q (k + 1) (u + 400) nx L (pb_r o :: rest) h') : pb_Ex G M n C S Q k u pc L st h := by
  obtain ⟨fs, hb⟩ := hI.1.obj
  refine pb_Ex.cV hi hl hst hsm hb hcl hcn hc ⟨hr, hk9, hu9⟩ (fun v h' hq => ?_) (fun E q h' hq => by cases hq.1)
  obtain ⟨e1, e2⟩ := hq
  cases e1
  obtain ⟨e', q1, q2⟩ := hI.st hf e2
  exact kk h' e' q1 q2
theorem pb_Ex.sbN {K : co_K} {nx tg idx o np : Nat} {h0 : pb_H} (hG : co_G G K) (hx : fr_x h0 h) (hf : fr_fin h0) (hb : h.2 o = some (pb_ob 14 [pb_0, pb_i 0, pb_i 0, pb_i 0])) (ho : h0.1 ≤ o) (hi : pb_ig (pb_tb M) pc = some (.invokespecial idx, nx, tg)) (hl : pb_lk3 (pb_lt M.1) idx = some (2, mJ6_init, np)) (hst : pb_take (np + 1) st [] = some ([pb_r o], rest)) (hsm : pb_sm rest = true) (hr : 2 < n) (hk9 : k + 1 ≤ C) (hu9 : u + 16 ≤ S) (kk : ∀ (h' : pb_H), sb_I G h0 h' o h.1 (fun _ => 0, 0) → h'.1 = h.1 + 1 → pb_Ex G M n C S Q (k + 1) (u + 16) nx L rest h') : pb_Ex G M n C S Q k u pc L st h := by
  refine pb_Ex.cIo hi hl hst hsm (js_init (s := fun _ => 0) hG hb) hr hk9 hu9 (fun h1 e1 => ?_)
  obtain ⟨e2, e3, e4⟩ := e1
  refine kk h1 ⟨⟨16, e3⟩, ho, hx.1, ⟨by have := hx.1; omega, fun b c hb _ => ?_⟩⟩ e2
  have := hf b c hb
  have := hx.1
  rw [e4 b (by omega) (by omega)]
  exact hx.2 b c hb trivial
end ROWS71
theorem dg_wr (P : wr_P) (z : Nat) (hz : z ≤ 99) : (dg_s P.1 P.2 z, P.2 + dg_n z) = wr_nu P z := by
  obtain ⟨s, m⟩ := P
  unfold dg_s dg_n wr_nu wr_sg
  by_cases c : z < 10
  · simp only [c, if_true]
    rw [if_neg (by omega), show (z : Int) % 10 = z by omega]
  · simp only [c, if_false]
    rw [if_pos (by omega)]
    refine Prod.ext ?_ ?_
    · dsimp only
      rw [show ((z / 10 : Nat) : Int) = (z : Int) / 10 by omega, show ((z % 10 : Nat) : Int) = (z : Int) % 10 by omega]
    · rfl
/-- a frame as text -/
def fm_t (P : wr_P) (l r : Int) : wr_P := wr_nu (wr_sg (wr_nu P l) 124) r
theorem fm_n (P : wr_P) (l r : Int) : (fm_t P l r).2 ≤ P.2 + 5 := by
  have h1 := wr_nu_n P l
  have h2 := wr_nu_n (wr_sg (wr_nu P l) 124) r
  have e : (wr_sg (wr_nu P l) 124).2 = (wr_nu P l).2 + 1 := rfl
  unfold fm_t
  omega
theorem fm_ct (P : wr_P) (l r : Int) : (sb_ct P.1 P.2 (fm_t (fun _ => 0, 0) l r).1 (fm_t (fun _ => 0, 0) l r).2, P.2 + (fm_t (fun _ => 0, 0) l r).2) = fm_t P l r := by
  obtain ⟨s, m⟩ := P
  unfold fm_t wr_nu wr_sg
  by_cases c1 : 9 < l <;> by_cases c2 : 9 < r <;> simp only [c1, c2, if_true, if_false] <;> refine Prod.ext ?_ rfl <;> funext j <;> unfold sb_ct va_up <;> dsimp only <;> (repeat' split) <;> first | rfl | (exfalso; omega)
section TEXT
variable {G : pb_G} {K : co_K} {h : pb_H} {B : Nat → Nat} {k : Nat} {f : Nat → Int} {o e : Nat} {P : wr_P}
theorem sx_I (hG : co_G G K) (hK : co_W K h) (hW : sb_W G h o e P.2 P.1) (z : Int) (hz : 0 ≤ z ∧ z ≤ 99) (hm : P.2 + 2 ≤ 150) : pb_Ctr G mJ6_append 5 1 400 [pb_r o, pb_i z] h (fun oc h' => oc = .inl (some (pb_r o)) ∧ sb_St G h o e (wr_nu P z).2 (wr_nu P z).1 h') := by
  obtain ⟨n, rfl⟩ := Int.eq_ofNat_of_zero_le hz.1
  rw [← dg_wr P n (by omega)]
  exact jb_appI hG hK hW n (by omega) hm
theorem sx_C (hG : co_G G K) (hW : sb_W G h o e P.2 P.1) (z : Int) (hz : 0 ≤ z ∧ z < 128) (hm : P.2 + 1 ≤ 150) : pb_Ctr G mJ6_append_2 5 1 400 [pb_r o, pb_i z] h (fun oc h' => oc = .inl (some (pb_r o)) ∧ sb_St G h o e (wr_sg P z).2 (wr_sg P z).1 h') := jb_appC hG hW z hz hm
theorem sx_S {i : Nat} (hG : co_G G K) (hK : co_W K h) (hW : sb_W G h o e P.2 P.1) (hi : i < 18) (c : Int) (hc : co_ln i = 1 ∧ co_ch i 0 = c) (hm : P.2 + 1 ≤ 150) : pb_Ctr G mJ6_append_3 5 1 400 [pb_r o, pb_r (co_sa K i)] h (fun oc h' => oc = .inl (some (pb_r o)) ∧ sb_St G h o e (wr_sg P c).2 (wr_sg P c).1 h') := by
  have q := jb_appS hG hW (co_st_W hK i hi) (by rw [hc.1]; exact hm)
  rw [hc.1] at q
  have e1 : sb_ct P.1 P.2 (co_ch i) 1 = (wr_sg P c).1 := by
    funext j
    unfold sb_ct wr_sg va_up
    dsimp only
    by_cases c1 : j = P.2
    · subst c1
      rw [if_pos (by omega), if_pos rfl, Nat.sub_self]
      exact hc.2
    · rw [if_neg (by omega), if_neg c1]
  rw [e1] at q
  exact q
theorem fm_toString {l r : Int} (hG : co_G G K) (hK : co_W K h) (hb : h.2 o = some (pb_ob 6 [pb_i l, pb_i r])) (h1 : 0 ≤ l ∧ l ≤ 30) (h2 : 0 ≤ r ∧ r ≤ 30) : pb_Ctr G mX8_toString 6 7 1624 [pb_r o] h (fun oc h' => ∃ q v, oc = .inl (some (pb_r q)) ∧ st_W h' q v (fm_t (fun _ => 0, 0) l r).2 (fm_t (fun _ => 0, 0) l r).1 ∧ h'.1 ≤ h.1 + 7 ∧ fr_x h h') := by
  refine pb_Ctr.of rfl rfl rfl tX8_toString_ok rfl ?_
  (try refine pb_Ex.run rfl ?_)
  refine pb_Ex.fin (fun hf => ?_)
  have hbl := hf _ _ hb
  have n1 := wr_nu_n (fun _ => 0, 0) l
  refine pb_Ex.new 14 4 RJ6 TJ6 [pb_0, pb_i 0, pb_i 0, pb_i 0] rfl rfl rfl rfl (fun j hj => by
    have hj : j < 4 := hj
    match j, hj with
    | 0, _ => rfl
    | 1, _ => rfl
    | 2, _ => rfl
    | 3, _ => rfl) (by omega) (by omega) ?_
  refine pb_Ex.run rfl ?_
  refine pb_Ex.sbN hG (fr_x.rf.nw hf _) hf pb_new_same (Nat.le_refl _) rfl rfl rfl rfl (by omega) (by omega) (by omega) (fun h1 hI s1 => ?_)
  have s1 : h1.1 = h.1 + 2 := s1
  (try refine pb_Ex.run rfl ?_)
  refine pb_Ex.getf rfl rfl (hI.2.2.2.at hb) rfl ?_
  (try refine pb_Ex.run rfl ?_)
  refine pb_Ex.sbA hf hI rfl rfl rfl rfl rfl rfl (sx_I hG (hK.x hG hI.2.2.2) hI.1 l (by omega) (by show 0 + 2 ≤ 150; omega)) (by omega) (by omega) (by omega) (fun h2 e2 hI s2 => ?_)
  (try refine pb_Ex.run rfl ?_)
  refine pb_Ex.ldcS rfl (hG.2.2.2.2.2.2 1 (8, 26, "|", [124]) rfl) ?_
  (try refine pb_Ex.run rfl ?_)
  refine pb_Ex.sbA hf hI rfl rfl rfl rfl rfl rfl (sx_S hG (hK.x hG hI.2.2.2) hI.1 (i := 1) (by omega) 124 ⟨rfl, rfl⟩ (by omega)) (by omega) (by omega) (by omega) (fun h3 e3 hI s3 => ?_)
  (try refine pb_Ex.run rfl ?_)
  refine pb_Ex.getf rfl rfl (hI.2.2.2.at hb) rfl ?_
  (try refine pb_Ex.run rfl ?_)
  refine pb_Ex.sbA hf hI rfl rfl rfl rfl rfl rfl (sx_I hG (hK.x hG hI.2.2.2) hI.1 r (by omega) (by show (wr_nu (fun _ => 0, 0) l).2 + 1 + 2 ≤ 150; omega)) (by omega) (by omega) (by omega) (fun h4 e4 hI s4 => ?_)
  (try refine pb_Ex.run rfl ?_)
  obtain ⟨fs, hbo⟩ := hI.1.obj
  refine pb_Ex.cV rfl rfl rfl rfl hbo rfl rfl (jb_toString hG hI.1) ⟨by omega, by omega, by omega⟩ (fun v h5 hq => ?_) (fun E q9 h2 hq => by cases hq.1)
  obtain ⟨d1, d2, d3, d4⟩ := hq
  cases d1
  (try refine pb_Ex.run rfl ?_)
  refine pb_Ex.aret rfl rfl (by first | exact Or.inl ⟨_, rfl⟩ | exact Or.inr ⟨_, rfl⟩) (by omega) (by omega) (⟨_, _, rfl, d3, by omega, hI.2.2.2.tr d4⟩)
theorem sb_I.x {h0 h' : pb_H} (hI : sb_I G h0 h o e P) (hx : fr_x h h') : sb_I G h0 h' o e P := ⟨hI.1.fr hx (fun _ _ => trivial) (fun _ _ => trivial), hI.2.1, hI.2.2.1, hI.2.2.2.tr hx⟩
/-- a hull as a line -/
theorem hu_toString (hG : co_G G K) (hK : co_W K h) (hW : hu_W K h B k f) (ok : hu_ok f k) (hk : k ≤ 99) : pb_Ctr G mX6_toString 7 100 27100 [pb_r (B 0)] h (fun oc h' => ∃ q v, oc = .inl (some (pb_r q)) ∧ st_W h' q v (wr_hull f k (fun _ => 0)).2 (wr_hull f k (fun _ => 0)).1 ∧ fr_x h h') := by
  have hn := ok.nn
  have hst := ok.1.1
  have hse : ya_se f k ≤ 7 := by unfold ya_se; omega
  refine pb_Ctr.of rfl rfl rfl tX6_toString_ok rfl ?_
  (try refine pb_Ex.run rfl ?_)
  refine pb_Ex.fin (fun hf => ?_)
  have n1 := wr_nu_n (fun _ => 0, 0) (k : Int)
  have n1 : (wr_nu (fun _ => 0, 0) (k : Int)).2 ≤ 0 + 2 := n1
  refine pb_Ex.new 14 4 RJ6 TJ6 [pb_0, pb_i 0, pb_i 0, pb_i 0] rfl rfl rfl rfl (fun j hj => by
    have hj : j < 4 := hj
    match j, hj with
    | 0, _ => rfl
    | 1, _ => rfl
    | 2, _ => rfl
    | 3, _ => rfl) (by omega) (by omega) ?_
  refine pb_Ex.run rfl ?_
  refine pb_Ex.sbN hG (fr_x.rf.nw hf _) hf pb_new_same (Nat.le_refl _) rfl rfl rfl rfl (by omega) (by omega) (by omega) (fun h1 hI s1 => ?_)
  (try refine pb_Ex.run rfl ?_)
  refine pb_Ex.getf rfl rfl (hI.2.2.2.at hW.1) rfl ?_
  (try refine pb_Ex.run rfl ?_)
  refine pb_Ex.sbA hf hI rfl rfl rfl rfl rfl rfl (sx_I hG (hK.x hG hI.2.2.2) hI.1 k (by omega) (by show 0 + 2 ≤ 150; omega)) (by omega) (by omega) (by omega) (fun h2 e2 hI s2 => ?_)
  (try refine pb_Ex.run rfl ?_)
  refine pb_Ex.getf rfl rfl (hI.2.2.2.at hW.1) rfl ?_
  (try refine pb_Ex.run rfl ?_)
  obtain ⟨i, hi, hi2⟩ : ∃ i : Nat, i < 4 ∧ f (21 + 28 * k) = i := ⟨(f (21 + 28 * k)).toNat, by omega, by omega⟩
  rw [show (f (21 + 28 * k)).toNat = i by omega]
  refine pb_Ex.getO rfl (hG.2.2.2.2.1 i hi).2.2.2 q2458 rfl ?_
  (try refine pb_Ex.run rfl ?_)
  have hl : co_lt i = wr_st (f (21 + 28 * k)) := by
    rw [hi2]
    match i, hi with
    | 0, _ => rfl
    | 1, _ => rfl
    | 2, _ => rfl
    | 3, _ => rfl
  have hl2 : 0 ≤ co_lt i ∧ co_lt i < 128 := by
    match i, hi with
    | 0, _ => decide
    | 1, _ => decide
    | 2, _ => decide
    | 3, _ => decide
  refine pb_Ex.sbA hf hI rfl rfl rfl rfl rfl rfl (sx_C hG hI.1 (co_lt i) hl2 (by show (wr_nu (fun _ => 0, 0) (k : Int)).2 + 1 ≤ 150; omega)) (by omega) (by omega) (by omega) (fun h3 e3 hI s3 => ?_)
  rw [hl] at hI
  (try refine pb_Ex.run rfl ?_)
  obtain ⟨P0, hP0⟩ : ∃ P0, P0 = wr_sg (wr_nu (fun _ => 0, 0) (k : Int)) (wr_st (f (21 + 28 * k))) := ⟨_, rfl⟩
  have hI : sb_I G h h3 h.1 e3 P0 := by rw [hP0]; exact hI
  have np : P0.2 ≤ 3 := by rw [hP0]; show (wr_nu (fun _ => 0, 0) (k : Int)).2 + 1 ≤ 3; omega
  have eT : wr_hull f k (fun _ => 0) = wr_frs f k P0 (ya_n f k) := by unfold wr_hull; rw [hP0]
  rw [eT]
  have loop : ∀ (d j : Nat) (z : Int) (h1 : pb_H) (e : Nat) (cc uu : Nat), j + d = ya_n f k → z = j → sb_I G h h1 h.1 e (wr_frs f k P0 j) → cc + 11 * d ≤ 98 → uu + 3224 * d ≤ 26640 → pb_Ex G mX6_toString 7 100 27100 (fun oc h' => ∃ q v, oc = .inl (some (pb_r q)) ∧ st_W h' q v (wr_frs f k P0 (ya_n f k)).2 (wr_frs f k P0 (ya_n f k)).1 ∧ fr_x h h') cc uu 29 [some (pb_r (B 0)), some (pb_r h.1), some (pb_i z)] [] h1 := by
    intro d
    induction d with
    | zero =>
      intro j z h1 e cc uu hj hz hI hc hu
      have ej : j = ya_n f k := by omega
      subst ej
      have hW1 := hW.x hI.2.2.2
      refine pb_Ex.run rfl ?_
      refine pb_Ex.pV rfl rfl rfl rfl (hW1.1) rfl rfl (hu_size hW1) (by omega) (by omega) (by omega) ?_
      (try refine pb_Ex.run rfl ?_)
      refine pb_Ex.icmpT rfl (by omega) (by omega) (by first | decide | (simp only [pb_cmp]; omega) | simp [pb_cmp]) ?_
      (try refine pb_Ex.run rfl ?_)
      obtain ⟨fs, hbo⟩ := hI.1.obj
      refine pb_Ex.cV rfl rfl rfl rfl hbo rfl rfl (jb_toString hG hI.1) ⟨by omega, by omega, by omega⟩ (fun v h5 hq => ?_) (fun E q9 h2 hq => by cases hq.1)
      obtain ⟨d1, d2, d3, d4⟩ := hq
      cases d1
      (try refine pb_Ex.run rfl ?_)
      refine pb_Ex.aret rfl rfl (by first | exact Or.inl ⟨_, rfl⟩ | exact Or.inr ⟨_, rfl⟩) (by omega) (by omega) (⟨_, _, rfl, d3, hI.2.2.2.tr d4⟩)
    | succ d ih =>
      intro j z h1 e cc uu hj hz hI hc hu
      subst hz
      have hW1 := hW.x hI.2.2.2
      have nj := wr_frs_n f k P0 j
      have wj := ok.wid (show j < 8 by omega)
      refine pb_Ex.run rfl ?_
      refine pb_Ex.pV rfl rfl rfl rfl (hW1.1) rfl rfl (hu_size hW1) (by omega) (by omega) (by omega) ?_
      (try refine pb_Ex.run rfl ?_)
      refine pb_Ex.icmpF rfl (by omega) (by omega) (by first | decide | (simp only [pb_cmp]; omega) | simp [pb_cmp]) ?_
      (try refine pb_Ex.run rfl ?_)
      refine pb_Ex.sbA hf hI rfl rfl rfl rfl rfl rfl (sx_C hG hI.1 32 (by decide) (by omega)) (by omega) (by omega) (by omega) (fun h2 e2 hI s2 => ?_)
      (try refine pb_Ex.run rfl ?_)
      have hW2 := hW.x hI.2.2.2
      refine pb_Ex.getf rfl rfl hW2.1 rfl ?_
      (try refine pb_Ex.run rfl ?_)
      obtain ⟨g, l2, l3⟩ := hW2.2.1
      obtain ⟨mc2, ho2⟩ := l2.obj
      refine pb_Ex.pV rfl rfl rfl rfl (ho2) rfl rfl (ja_get l2 j (by omega)) (by omega) (by omega) (by omega) ?_
      (try refine pb_Ex.run rfl ?_)
      refine pb_Ex.cast0 rfl rfl ((l3 j (by omega))) (fun r hr => by cases hr; rfl) ?_
      (try refine pb_Ex.run rfl ?_)
      refine pb_Ex.cV rfl rfl rfl rfl (l3 j (by omega)) rfl rfl (fm_toString hG (hK.x hG hI.2.2.2) (l3 j (by omega)) ⟨wj.1, wj.2.1⟩ ⟨wj.2.2.1, wj.2.2.2⟩) ⟨by omega, by omega, by omega⟩ (fun v h3 hq => ?_) (fun E q9 h2 hq => by obtain ⟨q, v, d1, -⟩ := hq; cases d1)
      obtain ⟨q, v, d1, d2, d3, d4⟩ := hq
      cases d1
      (try refine pb_Ex.run rfl ?_)
      have hI := hI.x d4
      have nf := fm_n (wr_sg (wr_frs f k P0 j) 32) (f (25 + 28 * k + 2 * j + 0)) (f (25 + 28 * k + 2 * j + 1))
      have e9 := fm_ct (wr_sg (wr_frs f k P0 j) 32) (f (25 + 28 * k + 2 * j + 0)) (f (25 + 28 * k + 2 * j + 1))
      have nw : (wr_sg (wr_frs f k P0 j) 32).2 = (wr_frs f k P0 j).2 + 1 := rfl
      have e92 := congrArg Prod.snd e9
      dsimp only at e92
      refine pb_Ex.sbA hf hI rfl rfl rfl rfl rfl rfl (jb_appS hG hI.1 d2 (by show (wr_sg (wr_frs f k P0 j) 32).2 + _ ≤ 150; omega)) (by omega) (by omega) (by omega) (fun h4 e4 hI s4 => ?_)
      have hI : sb_I G h h4 h.1 e4 (fm_t (wr_sg (wr_frs f k P0 j) 32) (f (25 + 28 * k + 2 * j + 0)) (f (25 + 28 * k + 2 * j + 1))) := by rw [← e9]; exact hI
      (try refine pb_Ex.run rfl ?_)
      have hW4 := hW.x hI.2.2.2
      refine pb_Ex.pV rfl rfl rfl rfl (hW4.1) rfl rfl (hu_seams hW4 ok) (by omega) (by omega) (by omega) ?_
      (try refine pb_Ex.run rfl ?_)
      have eS : wr_frs f k P0 (j + 1) = wr_fr f k j (wr_frs f k P0 j) := rfl
      refine pb_Ex.icmp_ge rfl (by omega) (by omega) (fun c => ?_) (fun c => ?_)
      · refine pb_Ex.run rfl ?_
        refine ih (j + 1) _ _ e4 _ _ (by omega) (by omega) ?_ (by omega) (by omega)
        rw [eS]
        unfold wr_fr
        rw [if_neg (by omega)]
        exact hI
      · refine pb_Ex.run rfl ?_
        refine pb_Ex.sbA hf hI rfl rfl rfl rfl rfl rfl (sx_C hG hI.1 126 (by decide) (by omega)) (by omega) (by omega) (by omega) (fun h5 e5 hI s5 => ?_)
        (try refine pb_Ex.run rfl ?_)
        have hW5 := hW.x hI.2.2.2
        refine pb_Ex.getf rfl rfl hW5.1 rfl ?_
        (try refine pb_Ex.run rfl ?_)
        obtain ⟨ca, l4, l6⟩ := hW5.2.2.1
        refine pb_Ex.iat (j) rfl (l4) (by omega) (by omega) ?_
        (try refine pb_Ex.run rfl ?_)
        have ec := l6 j (by omega)
        rw [if_pos (by omega)] at ec
        rw [ec]
        have cj := ok.1.2.2.1 j (by omega)
        refine pb_Ex.sbA hf hI rfl rfl rfl rfl rfl rfl (sx_I hG (hK.x hG hI.2.2.2) hI.1 (f (41 + 28 * k + j)) (by omega) (by show (fm_t (wr_sg (wr_frs f k P0 j) 32) (f (25 + 28 * k + 2 * j + 0)) (f (25 + 28 * k + 2 * j + 1))).2 + 1 + 2 ≤ 150; omega)) (by omega) (by omega) (by omega) (fun h6 e6 hI s6 => ?_)
        refine pb_Ex.run rfl ?_
        refine ih (j + 1) _ _ e6 _ _ (by omega) (by omega) ?_ (by omega) (by omega)
        rw [eS]
        unfold wr_fr
        rw [if_pos (by omega)]
        exact hI
  refine loop (ya_n f k) 0 0 h3 e3 _ _ (by omega) rfl hI (by omega) (by omega)
end TEXT
