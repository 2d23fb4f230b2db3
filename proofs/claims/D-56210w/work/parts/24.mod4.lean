set_option maxRecDepth 100000
section MODEL4
variable {G : pb_G} {h : pb_H} {o : Nat} {A : Nat → Nat} {x : Nat → Int} {F : Nat → Nat → Int} {t : Nat} {g : Nat → Int}
theorem mo_seamsG (hW : mo_W h o A x (va_up F 0 g)) (k : Nat) (hk : k < 6) (hn : ya_fr g k) : pb_Ctr G mX4_seams 3 0 0 [pb_r o, pb_i k] h (pb_P (some (pb_i (ya_se g k : Nat))) h) := mo_seams hW k hk hn
theorem mo_stateG (hW : mo_W h o A x (va_up F 0 g)) (k : Nat) (hk : k < 6) : pb_Ctr G mX4_state 2 0 0 [pb_r o, pb_i k] h (pb_P (some (pb_i (g (21 + 28 * k)))) h) := mo_state hW k hk
theorem mo_weightG (hW : mo_W h o A x (va_up F 0 g)) (k : Nat) (hk : k < 6) (hn : ya_fr g k) : pb_Ctr G mX4_weight 4 0 0 [pb_r o, pb_i k] h (pb_P (some (pb_i (ya_wt g k))) h) := mo_weight hW k hk hn
theorem mo_draughtG (hW : mo_W h o A x (va_up F 0 g)) (k : Nat) (hk : k < 6) (hn : ya_fr g k) (hwd : 0 ≤ ya_wd g k ∧ ya_wd g k ≤ 840) (w : Int) (hw : pb_rg w) : pb_Ctr G mX4_draught 4 0 0 [pb_r o, pb_i k, pb_i w] h (pb_P (some (pb_i (ya_dr (ya_wd g k) w))) h) := mo_draught hW k hk hn hwd w hw
theorem mo_passesHour (hW : mo_W h o A x F) (ok : ya_ok t (F 0)) : pb_Ctr G mX4_passesHour 6 0 0 [pb_r o] h (mo_Q o A h (some (pb_i (sp_hour (F 0)).2)) x (va_up F 0 (sp_hour (F 0)).1)) := by
  have hf : mo_Fr o A h h := mo_Fr.rf
  have h0 := ok.num
  have hN : (F 0 0).toNat ≤ 6 := by omega
  have L3 : ∀ (m k : Nat) (h' : pb_H) (zn z : Int) (l3 : Option pb_V), k + m = (F 0 0).toNat → z = k → zn = (sp_h3 (sp_hourB (F 0)) k).2 → mo_W h' o A x (va_up F 0 (sp_h3 (sp_hourB (F 0)) k).1) → mo_Fr o A h h' → pb_Ex G mX4_passesHour 6 0 0 (mo_Q o A h (some (pb_i (sp_hour (F 0)).2)) x (va_up F 0 (sp_hour (F 0)).1)) 0 0 179 [some (pb_r o), some (pb_i zn), some (pb_i z), l3] [] h' := by
    intro m
    induction m with
    | zero =>
      intro k h' zn z l3 hk hz hzn hW hf
      have e1 : k = (F 0 0).toNat := by omega
      have e2 : (sp_h3 (sp_hourB (F 0)) k).1 0 = F 0 0 := by
        rw [sp_h3_out _ _ _ (fun q hq => by omega)]
        unfold sp_hourB
        rw [sp_h2_out _ _ _ (fun q hq => by
          have := ok.fr (k := q) (by omega)
          unfold ya_fr at this ⊢
          rw [sp_hourA_out _ _ (by omega) (fun q hq => by omega) hN]; exact this) (fun q hq => by omega)]
        exact sp_hourA_out _ _ (by omega) (fun q hq => by omega) hN
      refine pb_Ex.run rfl ?_
      refine pb_Ex.getf rfl rfl hW.1 rfl ?_
      (try refine pb_Ex.run rfl ?_)
      refine pb_Ex.iat (0) rfl hW.m0 (by omega) (by omega) ?_
      (try refine pb_Ex.run rfl ?_)
      rw [e2]
      refine pb_Ex.icmpT rfl (by omega) (by omega) (by first | decide | (simp only [pb_cmp]; omega) | simp [pb_cmp]) ?_
      (try refine pb_Ex.run rfl ?_)
      subst e1 hzn
      refine pb_Ex.iret rfl rfl (by omega) (by omega) (⟨rfl, hW, hf⟩)
    | succ m ih =>
      intro k h' zn z l3 hk hz hzn hW hf
      have hk6 : k < 6 := by omega
      have frA : ∀ q, q < (F 0 0).toNat → ya_fr (sp_hourA (F 0)) q := fun q hq => by
        have := ok.fr (k := q) (by omega)
        unfold ya_fr at this ⊢
        rw [sp_hourA_out _ _ (by omega) (fun q hq => by omega) hN]; exact this
      have oB : ∀ i, i ≠ 1 → (∀ q, q < 6 → i ≠ 24 + 28 * q) → (∀ q, q < 6 → i < 41 + 28 * q ∨ 48 + 28 * q ≤ i) → sp_hourB (F 0) i = F 0 i := fun i a b c => by
        unfold sp_hourB
        rw [sp_h2_out _ _ _ frA (fun q hq => c q (by omega)), sp_hourA_out _ _ a b hN]
      have o3 : ∀ i, i ≠ 1 → (∀ q, q < 6 → i ≠ 24 + 28 * q) → (∀ q, q < 6 → i < 41 + 28 * q ∨ 48 + 28 * q ≤ i) → (∀ q, q < k → i ≠ 21 + 28 * q) → (sp_h3 (sp_hourB (F 0)) k).1 i = F 0 i := fun i a b c d => by
        rw [sp_h3_out _ _ _ d, oB i a b c]
      generalize hg : (sp_h3 (sp_hourB (F 0)) k).1 = g at hW o3
      have fr3 : ya_fr g k := by
        have := ok.fr (k := k) hk6
        unfold ya_fr at this ⊢
        rw [o3 _ (by omega) (fun q hq => by omega) (fun q hq => by omega) (fun q hq => by omega)]; exact this
      have e0 : g 0 = F 0 0 := o3 _ (by omega) (fun q hq => by omega) (fun q hq => by omega) (fun q hq => by omega)
      have e21 : g (21 + 28 * k) = F 0 (21 + 28 * k) := o3 _ (by omega) (fun q hq => by omega) (fun q hq => by omega) (fun q hq => by omega)
      have ewd : ya_wd g k = ya_wd (F 0) k := ya_wd_eq (ok.fr hk6) (o3 _ (by omega) (fun q hq => by omega) (fun q hq => by omega) (fun q hq => by omega)) (fun i a b => o3 _ (by omega) (fun q hq => by omega) (fun q hq => by omega) (fun q hq => by omega))
      have edry : ya_dry g k = ya_dry (F 0) k := ya_dry_eq (ok.fr hk6) (o3 _ (by omega) (fun q hq => by omega) (fun q hq => by omega) (fun q hq => by omega)) (o3 _ (by omega) (fun q hq => by omega) (fun q hq => by omega) (fun q hq => by omega)) (fun i a b => o3 _ (by omega) (fun q hq => by omega) (fun q hq => by omega) (fun q hq => by omega))
      have ewa : g (24 + 28 * k) = sp_hourA (F 0) (24 + 28 * k) := by
        rw [← hg, sp_h3_out _ _ _ (fun q hq => by omega)]
        unfold sp_hourB
        exact sp_h2_out _ _ _ frA (fun q hq => by omega)
      have hwa := sp_hourA_wa ok (k := k) hk6
      have hdry := ok.dry (k := k) hk6
      have hwd := ok.wd (k := k) hk6
      have hwt : pb_rg (ya_wt g k) := by
        unfold ya_wt
        rw [edry, ewa]; omega
      have hh := ok.hull (k := k) hk6
      have hdr := ya_dr_rg (ya_wd g k) (ya_wt g k)
      have hst : sp_h3 (sp_hourB (F 0)) (k + 1) = if g (21 + 28 * k) = 1 ∧ ya_dr (ya_wd g k) (ya_wt g k) = -1 then (va_up g (21 + 28 * k) 3, zn + 1) else sp_h3 (sp_hourB (F 0)) k := by
        rw [sp_h3, hg, hzn]
      refine pb_Ex.run rfl ?_
      refine pb_Ex.getf rfl rfl hW.1 rfl ?_
      (try refine pb_Ex.run rfl ?_)
      refine pb_Ex.iat (0) rfl hW.m0 (by omega) (by omega) ?_
      (try refine pb_Ex.run rfl ?_)
      rw [e0]
      refine pb_Ex.icmpF rfl (by omega) (by omega) (by first | decide | (simp only [pb_cmp]; omega) | simp [pb_cmp]) ?_
      (try refine pb_Ex.run rfl ?_)
      subst hz
      refine pb_Ex.pV rfl rfl rfl rfl hW.1 rfl rfl (mo_stateG hW k hk6) (by omega) (by omega) (by omega) ?_
      (try refine pb_Ex.run rfl ?_)
      rw [e21]
      refine pb_Ex.icmp_ne rfl (by omega) (by omega) (fun c1 => ?_) (fun c1 => ?_)
      · refine pb_Ex.run rfl ?_
        rw [if_neg (by omega)] at hst
        exact ih (k + 1) _ _ _ _ (by omega) (by omega) (by rw [hst]; exact hzn) (by rw [hst, hg]; exact hW) hf
      · refine pb_Ex.run rfl ?_
        refine pb_Ex.pV rfl rfl rfl rfl hW.1 rfl rfl (mo_weightG hW k hk6 fr3) (by omega) (by omega) (by omega) ?_
        (try refine pb_Ex.run rfl ?_)
        refine pb_Ex.pV rfl rfl rfl rfl hW.1 rfl rfl (mo_draughtG hW k hk6 fr3 (by rw [ewd]; exact hwd) (ya_wt g k) hwt) (by omega) (by omega) (by omega) ?_
        (try refine pb_Ex.run rfl ?_)
        refine pb_Ex.icmp_ne rfl (by omega) (by omega) (fun c2 => ?_) (fun c2 => ?_)
        · refine pb_Ex.run rfl ?_
          rw [if_neg (by omega)] at hst
          exact ih (k + 1) _ _ _ _ (by omega) (by omega) (by rw [hst]; exact hzn) (by rw [hst, hg]; exact hW) hf
        · refine pb_Ex.run rfl ?_
          rw [if_pos (by omega)] at hst
          refine pb_Ex.getf rfl rfl hW.1 rfl ?_
          (try refine pb_Ex.run rfl ?_)
          refine pb_Ex.pS rfl rfl rfl rfl (mo_hullAt (k : Int)) (by omega) (by omega) (by omega) ?_
          (try refine pb_Ex.run rfl ?_)
          refine pb_Ex.ms0 (21 + 28 * k) rfl hW hf (by omega) (by omega) (fun h1 hW hf => ?_)
          (try refine pb_Ex.run rfl ?_)
          exact ih (k + 1) _ _ _ _ (by omega) (by omega) (by rw [hst]) (by rw [hst]; exact hW) hf
  have L2 : ∀ (m k : Nat) (h' : pb_H) (z : Int) (l3 : Option pb_V), k + m = (F 0 0).toNat → z = k → mo_W h' o A x (va_up F 0 (sp_h2 (sp_hourA (F 0)) k)) → mo_Fr o A h h' → pb_Ex G mX4_passesHour 6 0 0 (mo_Q o A h (some (pb_i (sp_hour (F 0)).2)) x (va_up F 0 (sp_hour (F 0)).1)) 0 0 89 [some (pb_r o), some (pb_i 0), some (pb_i z), l3] [] h' := by
    have frA : ∀ q, q < (F 0 0).toNat → ya_fr (sp_hourA (F 0)) q := fun q hq => by
      have := ok.fr (k := q) (by omega)
      unfold ya_fr at this ⊢
      rw [sp_hourA_out _ _ (by omega) (fun q hq => by omega) hN]; exact this
    intro m
    induction m with
    | zero =>
      intro k h' z l3 hk hz hW hf
      have e1 : k = (F 0 0).toNat := by omega
      have e2 : (sp_h2 (sp_hourA (F 0)) k) 0 = F 0 0 := by
        rw [sp_h2_out _ _ _ (fun q hq => frA q (by omega)) (fun q hq => by omega)]
        exact sp_hourA_out _ _ (by omega) (fun q hq => by omega) hN
      refine pb_Ex.run rfl ?_
      refine pb_Ex.getf rfl rfl hW.1 rfl ?_
      (try refine pb_Ex.run rfl ?_)
      refine pb_Ex.iat (0) rfl hW.m0 (by omega) (by omega) ?_
      (try refine pb_Ex.run rfl ?_)
      rw [e2]
      refine pb_Ex.icmpT rfl (by omega) (by omega) (by first | decide | (simp only [pb_cmp]; omega) | simp [pb_cmp]) ?_
      (try refine pb_Ex.run rfl ?_)
      subst e1
      exact L3 (F 0 0).toNat 0 _ _ _ _ (by omega) (by omega) rfl hW hf
    | succ m ih =>
      intro k h' z l3 hk hz hW hf
      have hk6 : k < 6 := by omega
      have o2 : ∀ i, i ≠ 1 → (∀ q, q < 6 → i ≠ 24 + 28 * q) → (∀ q, q < k → i < 41 + 28 * q ∨ 48 + 28 * q ≤ i) → sp_h2 (sp_hourA (F 0)) k i = F 0 i := fun i a b c => by
        rw [sp_h2_out _ _ _ (fun q hq => frA q (by omega)) c, sp_hourA_out _ _ a b hN]
      have e1 : sp_h2 (sp_hourA (F 0)) k 1 = F 0 1 + 1 := by
        rw [sp_h2_out _ _ _ (fun q hq => frA q (by omega)) (fun q hq => by omega), sp_hourA_1]
      have hst : sp_h2 (sp_hourA (F 0)) (k + 1) = if sp_h2 (sp_hourA (F 0)) k (21 + 28 * k) = 1 ∧ sp_h2 (sp_hourA (F 0)) k 1 % 6 = 0 then sp_h2i (sp_h2 (sp_hourA (F 0)) k) k (ya_se (sp_h2 (sp_hourA (F 0)) k) k) else sp_h2 (sp_hourA (F 0)) k := rfl
      generalize hg : sp_h2 (sp_hourA (F 0)) k = g at hW o2 hst e1
      have e0 : g 0 = F 0 0 := o2 _ (by omega) (fun q hq => by omega) (fun q hq => by omega)
      have e21 : g (21 + 28 * k) = F 0 (21 + 28 * k) := o2 _ (by omega) (fun q hq => by omega) (fun q hq => by omega)
      have e22 : g (22 + 28 * k) = F 0 (22 + 28 * k) := o2 _ (by omega) (fun q hq => by omega) (fun q hq => by omega)
      have ese : ya_se g k = ya_se (F 0) k := ya_se_eq e22
      have hse := (ok.fr hk6).se
      have hh := ok.hull (k := k) hk6
      refine pb_Ex.run rfl ?_
      refine pb_Ex.getf rfl rfl hW.1 rfl ?_
      (try refine pb_Ex.run rfl ?_)
      refine pb_Ex.iat (0) rfl hW.m0 (by omega) (by omega) ?_
      (try refine pb_Ex.run rfl ?_)
      rw [e0]
      refine pb_Ex.icmpF rfl (by omega) (by omega) (by first | decide | (simp only [pb_cmp]; omega) | simp [pb_cmp]) ?_
      (try refine pb_Ex.run rfl ?_)
      subst hz
      by_cases hc : g (21 + 28 * k) = 1 ∧ g 1 % 6 = 0
      · rw [if_pos hc] at hst
        have inner : ∀ (m s : Nat) (h' : pb_H) (z : Int), s + m = ya_se g k → z = s → mo_W h' o A x (va_up F 0 (sp_h2i g k s)) → mo_Fr o A h h' → pb_Ex G mX4_passesHour 6 0 0 (mo_Q o A h (some (pb_i (sp_hour (F 0)).2)) x (va_up F 0 (sp_hour (F 0)).1)) 0 0 101 [some (pb_r o), some (pb_i 0), some (pb_i k), some (pb_i z)] [] h' := by
          intro m
          induction m with
          | zero =>
            intro s h' z hs hz hW hf
            have i22 : sp_h2i g k s (22 + 28 * k) = g (22 + 28 * k) := sp_h2i_out _ _ _ _ (by omega)
            refine pb_Ex.run rfl ?_
            refine pb_Ex.pV rfl rfl rfl rfl hW.1 rfl rfl (mo_seamsG hW k hk6 (by unfold ya_fr; rw [i22, e22]; omega)) (by omega) (by omega) (by omega) ?_
            (try refine pb_Ex.run rfl ?_)
            rw [ya_se_eq i22]
            refine pb_Ex.icmpT rfl (by omega) (by omega) (by first | decide | (simp only [pb_cmp]; omega) | simp [pb_cmp]) ?_
            (try refine pb_Ex.run rfl ?_)
            have es : s = ya_se g k := by omega
            subst es
            exact ih (k + 1) _ _ _ (by omega) (by omega) (by rw [hst]; exact hW) hf
          | succ m ihs =>
            intro s h' z hs hz hW hf
            have i22 : sp_h2i g k s (22 + 28 * k) = g (22 + 28 * k) := sp_h2i_out _ _ _ _ (by omega)
            have i21 : sp_h2i g k s (21 + 28 * k) = g (21 + 28 * k) := sp_h2i_out _ _ _ _ (by omega)
            have i1 : sp_h2i g k s 1 = g 1 := sp_h2i_out _ _ _ _ (by omega)
            have is : sp_h2i g k s (41 + 28 * k + s) = F 0 (41 + 28 * k + s) := by
              rw [sp_h2i_out _ _ _ _ (by omega)]
              exact o2 _ (by omega) (fun q hq => by omega) (fun q hq => by omega)
            have hca := ok.cau (k := k) hk6 (j := s) (by omega)
            refine pb_Ex.run rfl ?_
            refine pb_Ex.pV rfl rfl rfl rfl hW.1 rfl rfl (mo_seamsG hW k hk6 (by unfold ya_fr; rw [i22, e22]; omega)) (by omega) (by omega) (by omega) ?_
            (try refine pb_Ex.run rfl ?_)
            rw [ya_se_eq i22]
            refine pb_Ex.icmpF rfl (by omega) (by omega) (by first | decide | (simp only [pb_cmp]; omega) | simp [pb_cmp]) ?_
            (try refine pb_Ex.run rfl ?_)
            refine pb_Ex.pV rfl rfl rfl rfl hW.1 rfl rfl (mo_stateG hW k hk6) (by omega) (by omega) (by omega) ?_
            (try refine pb_Ex.run rfl ?_)
            rw [i21]
            refine pb_Ex.icmpF rfl (by omega) (by omega) (by first | decide | (simp only [pb_cmp]; omega) | simp [pb_cmp]) ?_
            (try refine pb_Ex.run rfl ?_)
            refine pb_Ex.getf rfl rfl hW.1 rfl ?_
            (try refine pb_Ex.run rfl ?_)
            refine pb_Ex.iat (1) rfl hW.m0 (by omega) (by omega) ?_
            (try refine pb_Ex.run rfl ?_)
            rw [i1]
            refine pb_Ex.irem rfl (by omega) (by omega) ?_
            subst hz
            refine pb_Ex.ifF rfl (by omega) (by first | decide | (simp only [pb_cmp]; omega) | simp [pb_cmp]) ?_
            (try refine pb_Ex.run rfl ?_)
            refine pb_Ex.getf rfl rfl hW.1 rfl ?_
            (try refine pb_Ex.run rfl ?_)
            refine pb_Ex.pS rfl rfl rfl rfl (mo_hullAt (k : Int)) (by omega) (by omega) (by omega) ?_
            (try refine pb_Ex.run rfl ?_)
            refine pb_Ex.getf rfl rfl hW.1 rfl ?_
            (try refine pb_Ex.run rfl ?_)
            refine pb_Ex.pS rfl rfl rfl rfl (mo_hullAt (k : Int)) (by omega) (by omega) (by omega) ?_
            (try refine pb_Ex.run rfl ?_)
            refine pb_Ex.iat (41 + 28 * k + s) rfl hW.m0 (by omega) (by omega) ?_
            (try refine pb_Ex.run rfl ?_)
            have rgs : pb_rg (sp_h2i g k s (41 + 28 * k + s) - 1) := by rw [is]; omega
            refine pb_Ex.mmax rfl rfl (by omega) rgs rfl (by omega) (by omega) (by omega) ?_
            refine pb_Ex.ms0 (41 + 28 * k + s) rfl hW hf (by omega) (by omega) (fun h1 hW hf => ?_)
            (try refine pb_Ex.run rfl ?_)
            exact ihs (s + 1) _ _ (by omega) (by omega) hW hf
        exact inner (ya_se g k) 0 _ _ (by omega) rfl hW hf
      · rw [if_neg hc] at hst
        have out : ∀ (h' : pb_H) (l3 : Option pb_V), mo_W h' o A x (va_up F 0 g) → mo_Fr o A h h' → pb_Ex G mX4_passesHour 6 0 0 (mo_Q o A h (some (pb_i (sp_hour (F 0)).2)) x (va_up F 0 (sp_hour (F 0)).1)) 0 0 171 [some (pb_r o), some (pb_i 0), some (pb_i k), l3] [] h' := by
          intro h' l3 hW hf
          refine pb_Ex.run rfl ?_
          exact ih (k + 1) _ _ _ (by omega) (by omega) (by rw [hst]; exact hW) hf
        refine pb_Ex.run rfl ?_
        refine pb_Ex.pV rfl rfl rfl rfl hW.1 rfl rfl (mo_seamsG hW k hk6 (by unfold ya_fr; rw [e22]; omega)) (by omega) (by omega) (by omega) ?_
        (try refine pb_Ex.run rfl ?_)
        rw [ese]
        refine pb_Ex.icmp_ge rfl (by omega) (by omega) (fun c1 => ?_) (fun c1 => ?_)
        · exact out _ _ hW hf
        · refine pb_Ex.run rfl ?_
          refine pb_Ex.pV rfl rfl rfl rfl hW.1 rfl rfl (mo_stateG hW k hk6) (by omega) (by omega) (by omega) ?_
          (try refine pb_Ex.run rfl ?_)
          rw [e21]
          refine pb_Ex.icmp_ne rfl (by omega) (by omega) (fun c2 => ?_) (fun c2 => ?_)
          · exact out _ _ hW hf
          · refine pb_Ex.run rfl ?_
            refine pb_Ex.getf rfl rfl hW.1 rfl ?_
            (try refine pb_Ex.run rfl ?_)
            refine pb_Ex.iat (1) rfl hW.m0 (by omega) (by omega) ?_
            (try refine pb_Ex.run rfl ?_)
            rw [e1]
            refine pb_Ex.irem rfl (by omega) (by omega) ?_
            refine pb_Ex.ifT rfl (by omega) (by show (F 0 1 + 1) % 6 ≠ 0; omega) ?_
            exact out _ _ hW hf
  have L1 : ∀ (m k : Nat) (h' : pb_H) (z : Int) (l3 : Option pb_V), k + m = (F 0 0).toNat → z = k → mo_W h' o A x (va_up F 0 (sp_h1 (va_up (F 0) 1 (F 0 1 + 1)) k)) → mo_Fr o A h h' → pb_Ex G mX4_passesHour 6 0 0 (mo_Q o A h (some (pb_i (sp_hour (F 0)).2)) x (va_up F 0 (sp_hour (F 0)).1)) 0 0 14 [some (pb_r o), some (pb_i 0), some (pb_i z), l3] [] h' := by
    intro m
    induction m with
    | zero =>
      intro k h' z l3 hk hz hW hf
      have e1 : k = (F 0 0).toNat := by omega
      have e2 : (sp_h1 (va_up (F 0) 1 (F 0 1 + 1)) k) 0 = F 0 0 := by
        rw [sp_h1_out _ _ _ (fun q hq => by omega), va_upN _ _ (by omega)]
      refine pb_Ex.run rfl ?_
      refine pb_Ex.getf rfl rfl hW.1 rfl ?_
      (try refine pb_Ex.run rfl ?_)
      refine pb_Ex.iat (0) rfl hW.m0 (by omega) (by omega) ?_
      (try refine pb_Ex.run rfl ?_)
      rw [e2]
      refine pb_Ex.icmpT rfl (by omega) (by omega) (by first | decide | (simp only [pb_cmp]; omega) | simp [pb_cmp]) ?_
      (try refine pb_Ex.run rfl ?_)
      subst e1
      exact L2 (F 0 0).toNat 0 _ _ _ (by omega) (by omega) hW hf
    | succ m ih =>
      intro k h' z l3 hk hz hW hf
      have hk6 : k < 6 := by omega
      have o1 : ∀ i, i ≠ 1 → (∀ q, q < k → i ≠ 24 + 28 * q) → sp_h1 (va_up (F 0) 1 (F 0 1 + 1)) k i = F 0 i := fun i a b => by
        rw [sp_h1_out _ _ _ b, va_upN _ _ a]
      have hst : sp_h1 (va_up (F 0) 1 (F 0 1 + 1)) (k + 1) = if sp_h1 (va_up (F 0) 1 (F 0 1 + 1)) k (21 + 28 * k) = 1 then sp_h1i (sp_h1 (va_up (F 0) 1 (F 0 1 + 1)) k) k (ya_se (sp_h1 (va_up (F 0) 1 (F 0 1 + 1)) k) k) else sp_h1 (va_up (F 0) 1 (F 0 1 + 1)) k := rfl
      generalize hg : sp_h1 (va_up (F 0) 1 (F 0 1 + 1)) k = g at hW o1 hst
      have e0 : g 0 = F 0 0 := o1 _ (by omega) (fun q hq => by omega)
      have e21 : g (21 + 28 * k) = F 0 (21 + 28 * k) := o1 _ (by omega) (fun q hq => by omega)
      have e22 : g (22 + 28 * k) = F 0 (22 + 28 * k) := o1 _ (by omega) (fun q hq => by omega)
      have ese : ya_se g k = ya_se (F 0) k := ya_se_eq e22
      have hse := (ok.fr hk6).se
      have hh := ok.hull (k := k) hk6
      refine pb_Ex.run rfl ?_
      refine pb_Ex.getf rfl rfl hW.1 rfl ?_
      (try refine pb_Ex.run rfl ?_)
      refine pb_Ex.iat (0) rfl hW.m0 (by omega) (by omega) ?_
      (try refine pb_Ex.run rfl ?_)
      rw [e0]
      refine pb_Ex.icmpF rfl (by omega) (by omega) (by first | decide | (simp only [pb_cmp]; omega) | simp [pb_cmp]) ?_
      (try refine pb_Ex.run rfl ?_)
      subst hz
      by_cases hc : g (21 + 28 * k) = 1
      · rw [if_pos hc] at hst
        have inner : ∀ (m s : Nat) (h' : pb_H) (z : Int), s + m = ya_se g k → z = s → mo_W h' o A x (va_up F 0 (sp_h1i g k s)) → mo_Fr o A h h' → pb_Ex G mX4_passesHour 6 0 0 (mo_Q o A h (some (pb_i (sp_hour (F 0)).2)) x (va_up F 0 (sp_hour (F 0)).1)) 0 0 26 [some (pb_r o), some (pb_i 0), some (pb_i k), some (pb_i z)] [] h' := by
          intro m
          induction m with
          | zero =>
            intro s h' z hs hz hW hf
            have i22 : sp_h1i g k s (22 + 28 * k) = g (22 + 28 * k) := sp_h1i_out _ _ _ _ (by omega)
            refine pb_Ex.run rfl ?_
            refine pb_Ex.pV rfl rfl rfl rfl hW.1 rfl rfl (mo_seamsG hW k hk6 (by unfold ya_fr; rw [i22, e22]; omega)) (by omega) (by omega) (by omega) ?_
            (try refine pb_Ex.run rfl ?_)
            rw [ya_se_eq i22]
            refine pb_Ex.icmpT rfl (by omega) (by omega) (by first | decide | (simp only [pb_cmp]; omega) | simp [pb_cmp]) ?_
            (try refine pb_Ex.run rfl ?_)
            have es : s = ya_se g k := by omega
            subst es
            exact ih (k + 1) _ _ _ (by omega) (by omega) (by rw [hst]; exact hW) hf
          | succ m ihs =>
            intro s h' z hs hz hW hf
            have i22 : sp_h1i g k s (22 + 28 * k) = g (22 + 28 * k) := sp_h1i_out _ _ _ _ (by omega)
            have i21 : sp_h1i g k s (21 + 28 * k) = g (21 + 28 * k) := sp_h1i_out _ _ _ _ (by omega)
            refine pb_Ex.run rfl ?_
            refine pb_Ex.pV rfl rfl rfl rfl hW.1 rfl rfl (mo_seamsG hW k hk6 (by unfold ya_fr; rw [i22, e22]; omega)) (by omega) (by omega) (by omega) ?_
            (try refine pb_Ex.run rfl ?_)
            rw [ya_se_eq i22]
            refine pb_Ex.icmpF rfl (by omega) (by omega) (by first | decide | (simp only [pb_cmp]; omega) | simp [pb_cmp]) ?_
            (try refine pb_Ex.run rfl ?_)
            refine pb_Ex.pV rfl rfl rfl rfl hW.1 rfl rfl (mo_stateG hW k hk6) (by omega) (by omega) (by omega) ?_
            (try refine pb_Ex.run rfl ?_)
            rw [i21]
            refine pb_Ex.icmpF rfl (by omega) (by omega) (by first | decide | (simp only [pb_cmp]; omega) | simp [pb_cmp]) ?_
            (try refine pb_Ex.run rfl ?_)
            refine pb_Ex.getf rfl rfl hW.1 rfl ?_
            (try refine pb_Ex.run rfl ?_)
            refine pb_Ex.pS rfl rfl rfl rfl (mo_hullAt (k : Int)) (by omega) (by omega) (by omega) ?_
            (try refine pb_Ex.run rfl ?_)
            refine pb_Ex.iat (24 + 28 * k) rfl hW.m0 (by omega) (by omega) ?_
            (try refine pb_Ex.run rfl ?_)
            refine pb_Ex.getf rfl rfl hW.1 rfl ?_
            (try refine pb_Ex.run rfl ?_)
            refine pb_Ex.pS rfl rfl rfl rfl (mo_hullAt (k : Int)) (by omega) (by omega) (by omega) ?_
            (try refine pb_Ex.run rfl ?_)
            subst hz
            refine pb_Ex.iat (41 + 28 * k + s) rfl hW.m0 (by omega) (by omega) ?_
            (try refine pb_Ex.run rfl ?_)
            refine pb_Ex.ms0 (24 + 28 * k) rfl hW hf (by omega) (by omega) (fun h1 hW hf => ?_)
            (try refine pb_Ex.run rfl ?_)
            exact ihs (s + 1) _ _ (by omega) (by omega) hW hf
        exact inner (ya_se g k) 0 _ _ (by omega) rfl hW hf
      · rw [if_neg hc] at hst
        have out : ∀ (h' : pb_H) (l3 : Option pb_V), mo_W h' o A x (va_up F 0 g) → mo_Fr o A h h' → pb_Ex G mX4_passesHour 6 0 0 (mo_Q o A h (some (pb_i (sp_hour (F 0)).2)) x (va_up F 0 (sp_hour (F 0)).1)) 0 0 81 [some (pb_r o), some (pb_i 0), some (pb_i k), l3] [] h' := by
          intro h' l3 hW hf
          refine pb_Ex.run rfl ?_
          exact ih (k + 1) _ _ _ (by omega) (by omega) (by rw [hst]; exact hW) hf
        refine pb_Ex.run rfl ?_
        refine pb_Ex.pV rfl rfl rfl rfl hW.1 rfl rfl (mo_seamsG hW k hk6 (by unfold ya_fr; rw [e22]; omega)) (by omega) (by omega) (by omega) ?_
        (try refine pb_Ex.run rfl ?_)
        rw [ese]
        refine pb_Ex.icmp_ge rfl (by omega) (by omega) (fun c1 => ?_) (fun c1 => ?_)
        · exact out _ _ hW hf
        · refine pb_Ex.run rfl ?_
          refine pb_Ex.pV rfl rfl rfl rfl hW.1 rfl rfl (mo_stateG hW k hk6) (by omega) (by omega) (by omega) ?_
          (try refine pb_Ex.run rfl ?_)
          rw [e21]
          refine pb_Ex.icmpT rfl (by omega) (by omega) (by show F 0 (21 + 28 * k) ≠ 1; omega) ?_
          exact out _ _ hW hf
  refine pb_Ctr.of rfl rfl rfl tX4_passesHour_ok rfl ?_
  (try refine pb_Ex.run rfl ?_)
  refine pb_Ex.getf rfl rfl hW.1 rfl ?_
  (try refine pb_Ex.run rfl ?_)
  have hW := hW.s0
  refine pb_Ex.iat (1) rfl hW.m0 (by omega) (by omega) ?_
  (try refine pb_Ex.run rfl ?_)
  refine pb_Ex.ms0 (1) rfl hW hf (by omega) (by omega) (fun h1 hW hf => ?_)
  (try refine pb_Ex.run rfl ?_)
  exact L1 (F 0 0).toNat 0 _ _ _ (by omega) rfl hW hf
end MODEL4
