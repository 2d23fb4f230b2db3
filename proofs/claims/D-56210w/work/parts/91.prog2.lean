set_option maxRecDepth 100000
def pg_L (K : co_K) (h' : pb_H) (g : Nat → Int) (N b e n : Nat) (ga : Nat → Nat) : Prop := al_W K h' b e n ga ∧ ∀ j, j < n → h'.2 (ga j) = some (pb_ob 4 [pb_i (op_c (cq_c g N j).1), pb_i ((cq_c g N j).2.1 0), pb_i ((cq_c g N j).2.1 1), pb_i ((cq_c g N j).2.1 2)])
def pg_Q (K : co_K) (g : Nat → Int) (N o : Nat) (h : pb_H) (r : Nat × Nat × Bool) : pb_O → pb_H → Prop := fun oc h' => (r.2.2 = true ∧ ∃ b e ga, oc = .inl (some (pb_r b)) ∧ pg_L K h' g N b e r.1 ga ∧ fr_P (fun b _ => b ≠ o) h h') ∨ (r.2.2 = false ∧ ps_X h o r.2.1 oc h')
section PROG
variable {G : pb_G} {K : co_K} {h : pb_H} {o a v N p : Nat} {g : Nat → Int}
theorem pg_L.mvo {h1 h2 : pb_H} {b e n : Nat} {ga : Nat → Nat} {fs : List pb_V} (hL : pg_L K h1 g N b e n ga) (ho : h1.2 o = some (pb_ob 10 fs)) (hx : fr_P (fun b _ => b ≠ o) h1 h2) : pg_L K h2 g N b e n ga := by
  obtain ⟨h3, h4⟩ := hL
  have ne : ∀ b c, h1.2 b = some c → (∀ fs, c ≠ pb_ob 10 fs) → b ≠ o := fun b c hb hc z => by
    rw [z, ho] at hb
    cases hb
    exact hc _ rfl
  have h3' := h3
  obtain ⟨mc, cap, q, m1, m2, -⟩ := h3'
  refine ⟨h3.fr hx (fun _ _ => ne _ _ m1 (fun fs z => by cases z)) (fun _ _ => ne _ _ m2 (fun fs z => by cases z)) (fun j hj ci fs hg => ?_), fun j hj => hx.2 _ _ (h4 j hj) (ne _ _ (h4 j hj) (fun fs z => by cases z))⟩
  exact ne _ _ (h4 j hj) (fun fs z => by cases z)
theorem fr_P.tr' {h0 h1 h2 : pb_H} {P P' : Nat → pb_C → Prop} (hx : fr_P P h0 h1) (hf : fr_fin h0) (hy : fr_P P' h1 h2) (hk : ∀ b, b < h0.1 → ∀ c, P' b c) : fr_P P h0 h2 := ⟨Nat.le_trans hx.1 hy.1, fun b c hb hp => hy.2 b c (hx.2 b c hb hp) (hk b (hf b c hb) c)⟩
theorem cq_cmd_le (hp : p ≤ N) : (cq_cmd g N p).2.2.1 ≤ N := by
  have a0 : ∀ i m j f0 p, i < 18 → p ≤ N → (cq_ad g N i m j (f0, p, true)).2.1 ≤ N := fun i m j f0 p hi hp => cq_ad_le hi hp
  have e : ∀ i p, i < 18 → p ≤ N → (cq_ex g N i p).1 ≤ N := fun i p hi hp => cq_ex_le hi hp
  unfold cq_cmd
  split
  · unfold cq_hh
    have e1 := e 2 p (by omega) hp
    split
    · split
      · exact a0 _ _ _ _ _ (by omega) e1
      · exact e _ _ (by omega) e1
    · exact e1
  split
  · exact cq_ad_le (by omega) (cq_ad_le (by omega) (a0 _ _ _ _ _ (by omega) hp))
  split
  · exact a0 _ _ _ _ _ (by omega) hp
  split
  · unfold cq_cc
    have e1 := e 5 p (by omega) hp
    split
    · split
      · exact cq_ad_le (by omega) (a0 _ _ _ _ _ (by omega) e1)
      · exact cq_ad_le (by omega) (a0 _ _ _ _ _ (by omega) e1)
    · exact e1
  split
  · exact a0 _ _ _ _ _ (by omega) hp
  split
  · exact cq_ad_le (by omega) (a0 _ _ _ _ _ (by omega) hp)
  split
  · exact cq_ad_le (by omega) (a0 _ _ _ _ _ (by omega) hp)
  split
  · exact cq_ad_le (by omega) (cq_ad_le (by omega) (a0 _ _ _ _ _ (by omega) hp))
  split
  · exact cq_ad_le (by omega) (a0 _ _ _ _ _ (by omega) hp)
  · exact hp
theorem ps_program (hG : co_G G K) (hK : co_W K h) (hP : ps_W h o a v N g 0) : pb_Ctr G mX12_program 12 170 1200 [pb_r o] h (pg_Q K g N o h (cq_run g N 13 0)) := by
  have N60 := hP.2.2.1
  refine pb_Ctr.of rfl rfl rfl tX12_program_ok rfl ?_
  (try refine pb_Ex.run rfl ?_)
  refine pb_Ex.fin (fun hf => ?_)
  have hol := hf _ _ hP.1
  refine pb_Ex.own hP.1 rfl (fun hoG => ?_)
  refine pb_Ex.new 12 3 RJ2 TJ2 [pb_i 0, pb_0, pb_i 0] rfl rfl rfl rfl (fun j hj => by
    have hj : j < 3 := hj
    match j, hj with
    | 0, _ => rfl
    | 1, _ => rfl
    | 2, _ => rfl) (by omega) (by omega) ?_
  refine pb_Ex.run rfl ?_
  refine pb_Ex.cIo rfl rfl rfl rfl (ja_init hG pb_new_same) (by omega) (by omega) (by omega) (fun h1 e1 => ?_)
  obtain ⟨s1, b1, x1⟩ := e1
  have s1 : h1.1 = h.1 + 1 := s1
  have b1 : h1.2 h.1 = _ := b1
  have x1 : ∀ b, b ≠ h.1 → h1.2 b = h.2 b := fun b hb => by rw [x1 b hb, pb_new_ne hb]
  have X1 : fr_x h h1 := ⟨by omega, fun b c hb _ => by have := hf b c hb; rw [x1 b (by omega)]; exact hb⟩
  have P1 : ps_W h1 o a v N g 0 := ⟨X1.at hP.1, hP.2.1.x X1, hP.2.2⟩
  have K1 : co_W K h1 := hK.x hG X1
  have L1 : al_W K h1 h.1 (co_E K) 0 (fun _ => 0) := al_W.emp K1 b1
  -- command j and the adding of what it gives, to place 17
  have step : ∀ (j cc uu pc0 : Nat) (y2 : Option pb_V) (h2 : pb_H) (e : Nat) (ga : Nat → Nat) (R : Nat × Nat × Bool), j < 15 → ps_W h2 o a v N g (cq_at g N j) → pg_L K h2 g N h.1 e j ga → (e = co_E K ∨ h.1 ≤ e) → co_W K h2 → fr_P (fun b _ => b ≠ o) h h2 → cc + 11 ≤ 170 → uu + 85 ≤ 1200 →
      ((cq_c g N j).2.2.2 = false → R.2.2 = false ∧ R.2.1 = (cq_c g N j).2.2.1) →
      ((cq_c g N j).2.2.2 = true → ∀ (h5 : pb_H) (e5 : Nat) (ga5 : Nat → Nat), ps_W h5 o a v N g (cq_c g N j).2.2.1 → pg_L K h5 g N h.1 e5 (j + 1) ga5 → (e5 = co_E K ∨ h.1 ≤ e5) → co_W K h5 → fr_P (fun b _ => b ≠ o) h h5 → pb_Ex G mX12_program 12 170 1200 (pg_Q K g N o h R) (cc + 11) (uu + 85) 17 [some (pb_r o), some (pb_r h.1), some (pb_i 1)] [] h5) →
      (pc0 = 10 ∨ pc0 = 39) → pb_Ex G mX12_program 12 170 1200 (pg_Q K g N o h R) cc uu pc0 [some (pb_r o), some (pb_r h.1), y2] [pb_r o, pb_r h.1] h2 := by
    intro j cc uu pc0 y2 h2 e ga R hj p1 p2 he p3 p4 hc hu kx kk hpc
    have call : ∀ nx, (nx = 13 ∨ nx = 42) → pb_ig (pb_tb mX12_program) pc0 = some (.invokevirtual 95, nx, 0) → pb_Ex G mX12_program 12 170 1200 (pg_Q K g N o h R) cc uu pc0 [some (pb_r o), some (pb_r h.1), y2] [pb_r o, pb_r h.1] h2 := by
      intro nx hnx hig
      refine pb_Ex.cV hig rfl rfl rfl p1.1 rfl rfl (ps_command hG p3 p1) ⟨by omega, by omega, by omega⟩ (fun vv h3 hq => ?_) (fun E q9 h3 hq => ?_)
      · rcases hq with ⟨w1, q, w2, w3, w4, w5, w6⟩ | ⟨w1, q, r1, r2, e, -⟩
        · cases w2
          have L3 := p2.mvo p1.1 w6
          obtain ⟨mc, ho⟩ := L3.1.obj
          have P3 : ps_W h3 o a v N g (cq_c g N j).2.2.1 := by
            obtain ⟨t1, t2⟩ := st_W.ne p1.2.1 p1.1
            exact ⟨w5, p1.2.1.fr w6 (fun _ _ => t1) (fun _ _ => t2), p1.2.2.1, cq_cmd_le p1.2.2.2⟩
          have K3 : co_W K h3 := p3.lo hG w6 (fun b c hb _ => by show b ≠ o; omega)
          have fin2 : pb_Ex G mX12_program 12 170 1200 (pg_Q K g N o h R) (cc + 10) (uu + 70) nx [some (pb_r o), some (pb_r h.1), y2] [pb_r q, pb_r h.1] h3 := by
            have add : ∀ nx2, pb_ig (pb_tb mX12_program) nx = some (.invokevirtual 98, nx2, 0) → (∀ h5, pb_Ex G mX12_program 12 170 1200 (pg_Q K g N o h R) (cc + 11) (uu + 85) 17 [some (pb_r o), some (pb_r h.1), some (pb_i 1)] [] h5 → pb_Ex G mX12_program 12 170 1200 (pg_Q K g N o h R) (cc + 10 + 1) (uu + 70 + 15) nx2 [some (pb_r o), some (pb_r h.1), y2] [pb_i 1] h5) → pb_Ex G mX12_program 12 170 1200 (pg_Q K g N o h R) (cc + 10) (uu + 70) nx [some (pb_r o), some (pb_r h.1), y2] [pb_r q, pb_r h.1] h3 := by
              intro nx2 hig2 go
              refine pb_Ex.cV hig2 rfl rfl rfl ho rfl rfl (ja_add hG K3 L3.1 hj w4 (by decide)) ⟨by omega, by omega, by omega⟩ (fun vv h5 hq => ?_) (fun E q9 h5 hq => by cases hq.1)
              obtain ⟨d1, e', d2, d3, d4, d5, d6⟩ := hq
              cases d1
              have L3' := L3.1
              obtain ⟨mcl, capl, ql, r1, r2, -⟩ := L3'
              have x3 : fr_P (fun b _ => b ≠ o) h h3 := p4.tr w6
              have g3 := x3.1
              have ne : ∀ b c, h3.2 b = some c → (∀ fs, c ≠ pb_ob 12 fs) → (∀ N q, c ≠ pb_aR N q) → h5.2 b = some c := fun b c hb n1 n2 => by
                refine d6.2 b c hb ⟨fun z => ?_, Or.inl (fun z => ?_)⟩
                · rw [z, r1] at hb; cases hb; exact n1 _ rfl
                · rw [z, r2] at hb; cases hb; exact n2 _ _ rfl
              have k5 : ∀ b, b < h.1 → b ≠ h.1 ∧ (b ≠ e ∨ b = co_E K) := fun b hb => by
                refine ⟨by omega, ?_⟩
                rcases he with z | z
                · by_cases q9 : b = e
                  · exact Or.inr (q9.trans z)
                  · exact Or.inl q9
                · exact Or.inl (by omega)
              refine go h5 (kk w1 h5 e' (va_up ga j q) ?_ ⟨d2, fun i hi => ?_⟩ ?_ (K3.lo hG d6 (fun b c hb _ => k5 b (by omega))) (x3.tr' hf d6 (fun b hb _ => k5 b hb)))
              · obtain ⟨t1, ⟨t2, t3, t4, t5, t6⟩, t7⟩ := P3
                exact ⟨ne _ _ t1 (fun fs z => by cases z) (fun N q z => by cases z), ⟨ne _ _ t2 (fun fs z => by cases z) (fun N q z => by cases z), t3, t4, ne _ _ t5 (fun fs z => by cases z) (fun N q z => by cases z), t6⟩, t7⟩
              · by_cases c : i = j
                · subst c
                  rw [va_upS]
                  exact ne _ _ w4 (fun fs z => by cases z) (fun N q z => by cases z)
                · rw [va_upN _ _ c]
                  exact ne _ _ (L3.2 i (by omega)) (fun fs z => by cases z) (fun N q z => by cases z)
              · rcases d3 with d3 | d3
                · rw [d3]; exact he
                · exact Or.inr (by omega)
            rcases hnx with rfl | rfl
            · exact add 16 rfl (fun h5 k5 => by
                refine pb_Ex.run rfl ?_
                exact k5)
            · exact add 45 rfl (fun h5 k5 => by
                refine pb_Ex.run rfl ?_
                exact k5)
          exact fin2
        · cases e
      · refine pb_Xx.out rfl (by omega) (by omega) ?_
        rcases hq with ⟨w1, q, w2, -⟩ | ⟨w1, w2⟩
        · cases w2
        · have := kx w1
          refine Or.inr ⟨this.1, ?_⟩
          rw [this.2]
          exact w2.tr p4
    rcases hpc with rfl | rfl
    · exact call 13 (Or.inl rfl) rfl
    · exact call 42 (Or.inr rfl) rfl
  have rT : ∀ m j, (cq_c g N j).2.2.2 = true → cq_run g N (m + 1) j = (if N ≤ (cq_c g N j).2.2.1 then (j + 1, (cq_c g N j).2.2.1, true) else if (cq_ex g N 17 (cq_c g N j).2.2.1).2 = true then cq_run g N m (j + 1) else (j + 1, (cq_ex g N 17 (cq_c g N j).2.2.1).1, false)) := fun m j w => by
    rw [cq_run, if_pos w]
  have rF : ∀ m j, (cq_c g N j).2.2.2 = false → cq_run g N (m + 1) j = (j, (cq_c g N j).2.2.1, false) := fun m j w => by
    rw [cq_run, if_neg (by rw [w]; decide)]
  have loop : ∀ (m j cc uu : Nat) (y2 : Option pb_V) (h2 : pb_H) (e : Nat) (ga : Nat → Nat), j + m = 12 → 5 * j ≤ cq_at g N j → (cq_c g N j).2.2.2 = true → ps_W h2 o a v N g (cq_c g N j).2.2.1 → pg_L K h2 g N h.1 e (j + 1) ga → (e = co_E K ∨ h.1 ≤ e) → co_W K h2 → fr_P (fun b _ => b ≠ o) h h2 → cc + 12 * m ≤ 158 → uu + 92 * m ≤ 1193 → pb_Ex G mX12_program 12 170 1200 (pg_Q K g N o h (cq_run g N (m + 1) j)) cc uu 17 [some (pb_r o), some (pb_r h.1), y2] [] h2 := by
    intro m
    induction m with
    | zero =>
      intro j cc uu y2 h2 e ga hj h5 ok p1 p2 he p3 p4 hc hu
      have q1 := cq_cmd_pos ok
      have q2 := p1.2.2.2
      have hj : j = 12 := by omega
      subst hj
      exact absurd q1 (by show ¬ (cq_at g N 12 + 4 ≤ (cq_c g N 12).2.2.1); omega)
    | succ m ih =>
      intro j cc uu y2 h2 e ga hj h5 ok p1 p2 he p3 p4 hc hu
      have q1 : cq_at g N j + 4 ≤ (cq_c g N j).2.2.1 := cq_cmd_pos ok
      have q2 := p1.2.2.2
      rw [rT (m + 1) j ok]
      refine pb_Ex.run rfl ?_
      refine pb_Ex.getf rfl rfl p1.1 rfl ?_
      (try refine pb_Ex.run rfl ?_)
      refine pb_Ex.getf rfl rfl p1.1 rfl ?_
      (try refine pb_Ex.run rfl ?_)
      refine pb_Ex.pV rfl rfl rfl rfl (p1.2.1.1) rfl rfl (jt_length hG p1.2.1) (by omega) (by omega) (by omega) ?_
      (try refine pb_Ex.run rfl ?_)
      refine pb_Ex.icmp_ge rfl (by omega) (by omega) (fun c => ?_) (fun c => ?_)
      · rw [if_pos (show N ≤ (cq_c g N j).2.2.1 by omega)]
        refine pb_Ex.run rfl ?_
        refine pb_Ex.aret rfl rfl (by first | exact Or.inl ⟨_, rfl⟩ | exact Or.inr ⟨_, rfl⟩) (by omega) (by omega) (Or.inl ⟨rfl, _, _, _, rfl, p2, p4⟩)
      · rw [if_neg (show ¬ N ≤ (cq_c g N j).2.2.1 by omega)]
        refine pb_Ex.run rfl ?_
        refine pb_Ex.ldcS rfl (hG.2.2.2.2.2.2 17 (12, 102, ";", [59]) rfl) ?_
        (try refine pb_Ex.run rfl ?_)
        refine pb_Ex.cV rfl rfl rfl rfl p1.1 rfl rfl (ps_expect hG p3 p1 17 (by omega)) ⟨by omega, by omega, by omega⟩ (fun vv h3 hq => ?_) (fun E q9 h3 hq => pb_Xx.out rfl (by omega) (by omega) ?_)
        · rcases hq with ⟨w1, w2, w3, w4, w5⟩ | ⟨w1, q, r1, r2, e, -⟩
          · cases w2
            rw [if_pos w1]
            have ea : (cq_ex g N 17 (cq_c g N j).2.2.1).1 = (cq_c g N j).2.2.1 + 1 := cq_ex_pos w1
            have eat : cq_at g N (j + 1) = (cq_ex g N 17 (cq_c g N j).2.2.1).1 := rfl
            have P3 : ps_W h3 o a v N g (cq_at g N (j + 1)) := p1.mv w4 w5 (cq_ex_le (by omega) q2)
            have x3 : fr_P (fun b _ => b ≠ o) h2 h3 := ⟨by omega, fun b c hb hl => by rw [w5 b hl]; exact hb⟩
            (try refine pb_Ex.run rfl ?_)
            refine step (j + 1) _ _ 39 y2 h3 e ga _ (by omega) P3 (p2.mvo p1.1 x3) he (p3.lo hG x3 (fun b c hb _ => by show b ≠ o; omega)) (p4.tr x3) (by omega) (by omega) (fun w => by rw [rF m _ w]; exact ⟨rfl, rfl⟩) (fun w h5 e5 ga5 z1 z2 z3 z4 z5 => ?_) (Or.inr rfl)
            exact ih (j + 1) _ _ _ h5 e5 ga5 (by omega) (by omega) w z1 z2 z3 z4 z5 (by omega) (by omega)
          · cases e
        · rcases hq with ⟨w1, w2, -⟩ | ⟨w1, w2⟩
          · cases w2
          · rw [if_neg (by rw [w1]; decide)]
            exact Or.inr ⟨rfl, w2.tr p4⟩
  (try refine pb_Ex.run rfl ?_)
  refine step 0 _ _ 10 _ h1 (co_E K) (fun _ => 0) _ (by omega) P1 ⟨L1, fun j hj => absurd hj (Nat.not_lt_zero _)⟩ (Or.inl rfl) K1 X1.P (by omega) (by omega) (fun w => by rw [rF 12 0 w]; exact ⟨rfl, rfl⟩) (fun w h5 e5 ga5 z1 z2 z3 z4 z5 => ?_) (Or.inl rfl)
  exact loop 12 0 _ _ _ h5 e5 ga5 (by omega) (by omega) w z1 z2 z3 z4 z5 (by omega) (by omega)
end PROG
