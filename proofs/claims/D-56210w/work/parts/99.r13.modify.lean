set_option maxRecDepth 100000
/-! MODIFYING -/
section MODI0
variable {G : pb_G} {M : pb_M} {n C S : Nat} {Q : pb_O → pb_H → Prop} {k u pc : Nat} {L : List (Option pb_V)} {st : List pb_V} {h : pb_H}
theorem pb_Ex.bg (kk : pb_b G ≤ h.1 → pb_Ex G M n C S Q k u pc L st h) : pb_Ex G M n C S Q k u pc L st h := by
  intro p e R s m args below meth c X H locs ls hR
  exact kk hR.2.1 p e R s m args below meth c X H locs ls hR
end MODI0
/-- the cells of a yard are of the kinds that stay -/
theorem yd_kk {K : co_K} {h : pb_H} {A : Nat → Nat} {f : Nat → Int} (hW : yd_W K h A f) : ∀ i, i < 7 + 4 * (f 0).toNat → ∀ c, h.2 (A i) = some c → bo_kk c := by
  obtain ⟨k1, ⟨_, cap1, _, k2, k2', -, j2, -⟩, k3, ⟨g, ⟨_, cap2, _, k4, k4', -, j4, -⟩, k5⟩, ⟨c1, k6, k7⟩, ⟨c2, k8, k9⟩, k10, k11⟩ := hW
  have ob : ∀ (ci : Nat) (fs : List pb_V), ci ≠ 0 ∧ ci ≠ 13 ∧ ci ≠ 14 → bo_kk (pb_ob ci fs) := fun _ _ h => h
  have ar : ∀ (N : Nat) (g : Nat → Option Nat), N ≠ 17 → bo_kk (pb_aR N g) := fun _ _ h => h
  have ai : ∀ (N : Nat) (g : Nat → Int), bo_kk (pb_aI 0 N g) := fun _ _ => (show (0 : Nat) ≠ 4 by decide)
  intro i hi c hc
  by_cases c7 : i < 7
  · match i, c7 with
    | 0, _ => rw [k1] at hc; cases hc; exact ob _ _ (by omega)
    | 1, _ => rw [k2] at hc; cases hc; exact ob _ _ (by omega)
    | 2, _ => rw [k4] at hc; cases hc; exact ob _ _ (by omega)
    | 3, _ => rw [k6] at hc; cases hc; exact ai _ _
    | 4, _ => rw [k8] at hc; cases hc; exact ai _ _
    | 5, _ => rw [k2'] at hc; cases hc; exact ar _ _ (by omega)
    | 6, _ => rw [k4'] at hc; cases hc; exact ar _ _ (by omega)
  · obtain ⟨k, i', hk, hi', e⟩ : ∃ k i', k < (f 0).toNat ∧ i' < 4 ∧ i = 7 + 4 * k + i' := ⟨(i - 7) / 4, (i - 7) % 4, by omega, by omega, by omega⟩
    subst e
    obtain ⟨m1, ⟨g, ⟨_, cap3, _, m2, m3, -, m6, -⟩, -⟩, ⟨c2, m4, -⟩, m5⟩ := k3 k hk
    match i', hi' with
    | 0, _ => have hc : h.2 (A (7 + 4 * k + 0)) = some c := hc; rw [m1] at hc; cases hc; exact ob _ _ (by omega)
    | 1, _ => rw [m2] at hc; cases hc; exact ob _ _ (by omega)
    | 2, _ => rw [m4] at hc; cases hc; exact ai _ _
    | 3, _ => rw [m3] at hc; cases hc; exact ar _ _ (by omega)
theorem yd_W.kk {K : co_K} {h h' : pb_H} {A : Nat → Nat} {f : Nat → Int} {P : Nat → pb_C → Prop} (hW : yd_W K h A f) (hx : fr_P P h h') (hP : ∀ b c, h.2 b = some c → bo_kk c → P b c) : yd_W K h' A f :=
  hW.fr hx (fun i hi c hc => hP _ _ hc (yd_kk hW i hi c hc)) (fun b fs hb => hP _ _ hb (show 6 ≠ 0 ∧ 6 ≠ 13 ∧ 6 ≠ 14 by decide)) (fun b fs hb => hP _ _ hb (show 8 ≠ 0 ∧ 8 ≠ 13 ∧ 8 ≠ 14 by decide))
def bo_px (x : Nat → Int) : Nat → Int := va_up x 1 (if x 1 = 8 then 8 else x 1 + 1)
def bo_pF (F : Nat → Nat → Int) (f' : Nat → Int) : Nat → Nat → Int := fun i => if i = 0 then f' else if i < 4 then F i else if i = 4 then F 0 else F (i - 1)
section MODI
variable {G : pb_G} {K : co_K} {h h' : pb_H} {o : Nat} {A S B : Nat → Nat} {Y : Nat → Nat → Nat} {x : Nat → Int} {F : Nat → Nat → Int} {t : Nat}
/-- nothing changes but the use, the deque, its array -/
theorem bo_U.put (hU : bo_U G K h o A S Y B x F) (hs : h.1 ≤ h'.1) (hb : ∀ b, b ≠ o → b ≠ B 1 → b ≠ B 2 → h'.2 b = h.2 b) : fr_P (fun _ c => bo_kk c) h h' ∧ (∀ A f, yd_W K h A f → yd_W K h' A f) ∧ h'.2 (B 0) = some (pb_ob 2 [pb_r (B 1)]) ∧ st_W h' (B 3) (B 4) (x 5).toNat (F 2) ∧ sb_W G h' (B 5) (B 6) (x 6).toNat (F 3) ∧ o ≠ B 1 ∧ o ≠ B 2 := by
  obtain ⟨u1, u2, u3, ⟨u4, u5⟩, u6, u7, u8, u9⟩ := hU
  have u5' := u5
  obtain ⟨hd, q, d1, d2, d3, d4, d5⟩ := u5'
  have u7' := u7
  obtain ⟨s1, s2, g, s3, s4⟩ := u7'
  have u8' := u8
  obtain ⟨cap, ml, g2, b1, b2, b3, -⟩ := u8'
  have n1 : o ≠ B 1 := fun z => by rw [z, d1] at u1; cases u1
  have n2 : o ≠ B 2 := fun z => by rw [z, d4] at u1; cases u1
  have hk : fr_P (fun _ c => bo_kk c) h h' := ⟨hs, fun b c hc hp => by
    rw [hb b (fun z => ?_) (fun z => ?_) (fun z => ?_)]
    · exact hc
    · rw [z, u1] at hc; cases hc; exact absurd rfl hp.1
    · rw [z, d1] at hc; cases hc; exact absurd rfl hp.2.1
    · rw [z, d4] at hc; cases hc; exact absurd rfl hp⟩
  have hx : fr_P (fun b _ => b ≠ o ∧ b ≠ B 1 ∧ b ≠ B 2) h h' := ⟨hs, fun b c hc hp => by rw [hb b hp.1 hp.2.1 hp.2.2]; exact hc⟩
  have ne : ∀ a c, h.2 a = some c → (∀ fs, c ≠ pb_ob 0 fs) → (∀ fs, c ≠ pb_ob 13 fs) → (∀ N g, c ≠ pb_aR N g) → a ≠ o ∧ a ≠ B 1 ∧ a ≠ B 2 := fun a c hc h1 h2 h3 => ⟨fun z => by rw [z, u1] at hc; cases hc; exact h1 _ rfl, fun z => by rw [z, d1] at hc; cases hc; exact h2 _ rfl, fun z => by rw [z, d4] at hc; cases hc; exact h3 _ _ rfl⟩
  have e0 := ne _ _ u4 (fun _ z => by cases z) (fun _ z => by cases z) (fun _ _ z => by cases z)
  refine ⟨hk, fun A f hW => hW.kk hk (fun _ _ _ q => q), by rw [hb _ e0.1 e0.2.1 e0.2.2]; exact u4, u7.fr hx (fun c hc => ?_) (fun c hc => ?_), u8.fr hx (fun c hc => ?_) (fun c hc => ?_), n1, n2⟩
  · exact ne _ _ s1 (fun _ z => by cases z) (fun _ z => by cases z) (fun _ _ z => by cases z)
  · exact ne _ _ s3 (fun _ z => by cases z) (fun _ z => by cases z) (fun _ _ z => by cases z)
  · exact ne _ _ b2 (fun _ z => by cases z) (fun _ z => by cases z) (fun _ _ z => by cases z)
  · exact ne _ _ b3 (fun _ z => by cases z) (fun _ z => by cases z) (fun _ _ z => by cases z)
theorem bo_commit {A' : Nat → Nat} {f' : Nat → Int} {v : Int} (hU : bo_U G K h o A S Y B x F) (h1 : 0 ≤ x 1 ∧ x 1 ≤ 8) (hW : yd_W K h A' f') : pb_Ctr G mX1_commit 4 0 0 [pb_r o, pb_r (A' 0), pb_i v] h (fun oc h' => oc = .inl (some (pb_i v)) ∧ fr_P (fun _ c => bo_kk c) h h' ∧ bo_W G K h' o (bo_px x) (bo_pF F f')) := by
  have hU' := hU
  obtain ⟨u1, u2, u3, u4, u6, u7, u8, u9⟩ := hU
  have hm : (x 1).toNat ≤ 8 := by omega
  refine pb_Ctr.of rfl rfl rfl tX1_commit_ok rfl ?_
  (try refine pb_Ex.run rfl ?_)
  refine pb_Ex.getf rfl rfl u1 rfl ?_
  (try refine pb_Ex.run rfl ?_)
  refine pb_Ex.getf rfl rfl u1 rfl ?_
  (try refine pb_Ex.run rfl ?_)
  refine pb_Ex.callY (M2 := mX3_push) (np := 1) rfl q951 mX3_push_ok rfl rfl u4.1 (fun r hr => by cases hr; rfl) (hi_push u4 hm u2.1 (fun i hi => ⟨_, (u6 i hi).1⟩)) ⟨by omega, by omega, by omega⟩ (fun w h1 hq => ?_) (fun E q h1 hq => by cases hq.1)
  obtain ⟨e1, q1, q2, q3⟩ := hq
  cases e1
  (try refine pb_Ex.run rfl ?_)
  have o1 : h1.2 o = h.2 o := by
    have := hU'.put (h' := h) (Nat.le_refl _) (fun _ _ _ _ => rfl)
    exact q3 o this.2.2.2.2.2.1 this.2.2.2.2.2.2
  refine pb_Ex.putf rfl rfl ((o1.trans u1)) rfl rfl (by first | trivial | exact Or.inl rfl | exact Or.inr rfl | (show _ ∨ _; omega) | (show _ ∧ _; omega)) ?_
  (try refine pb_Ex.run rfl ?_)
  obtain ⟨p1, p2, p3, p4, p5, p6, p7⟩ := hU'.put (h' := pb_set h1 o (pb_ob 0 ([pb_r (A 0), (if x 0 = 0 then pb_0 else pb_r (S 0)), pb_r (B 0), pb_i (x 2), pb_i (x 3), pb_i (x 4), pb_r (B 3), pb_r (B 5)].set 0 (pb_r (A' 0))))) (Nat.le_of_eq q2.symm) (fun b b1 b2 b3 => by rw [pb_set_ne b1]; exact q3 b b2 b3)
  refine pb_Ex.iret rfl rfl (by omega) (by omega) (⟨rfl, p1, A', S, fun i => if i = 0 then A else Y (i - 1), B, ?_⟩)
  have e1 : (bo_px x 1).toNat = if (x 1).toNat = 8 then 8 else (x 1).toNat + 1 := by
    unfold bo_px
    rw [va_upS]
    by_cases c : x 1 = 8
    · rw [if_pos c, if_pos (by omega)]; rfl
    · rw [if_neg c, if_neg (by omega)]; omega
  have ex : ∀ i, i ≠ 1 → bo_px x i = x i := fun i hi => va_upN _ _ hi
  unfold bo_U
  rw [e1, ex 0 (by omega), ex 2 (by omega), ex 3 (by omega), ex 4 (by omega), ex 5 (by omega), ex 6 (by omega)]
  refine ⟨pb_set_same, p2 _ _ hW, fun z => p2 _ _ (u3 z), ⟨p3, ?_⟩, fun i hi => ?_, p4, p5, u9⟩
  · have := q1.2.cg (h' := pb_set h1 o (pb_ob 0 ([pb_r (A 0), (if x 0 = 0 then pb_0 else pb_r (S 0)), pb_r (B 0), pb_i (x 2), pb_i (x 3), pb_i (x 4), pb_r (B 3), pb_r (B 5)].set 0 (pb_r (A' 0))))) (pb_set_ne (Ne.symm p6)) (pb_set_ne (Ne.symm p7))
    have e2 : (fun i => if i = 0 then A 0 else Y (i - 1) 0) = fun i => (if i = 0 then A else Y (i - 1)) 0 := by
      funext i
      by_cases c : i = 0
      · rw [if_pos c, if_pos c]
      · rw [if_neg c, if_neg c]
    rw [e2] at this
    exact this
  · cases i with
    | zero => exact p2 _ _ u2
    | succ i =>
      have e3 : bo_pF F f' (4 + (i + 1)) = F (4 + i) := by
        unfold bo_pF
        rw [if_neg (by omega), if_neg (by omega), if_neg (by omega)]
        congr 1
      rw [e3]
      refine p2 _ _ (u6 i ?_)
      by_cases c : (x 1).toNat = 8
      · rw [if_pos c] at hi; omega
      · rw [if_neg c] at hi; omega
def mo_exu (k : Nat) (c : Int) : String := if op_ex k c = xLR then xUOE else op_ex k c
/-- a modification's end: (refusal, answer, numbers), w the reason that is noted -/
def bo_mQ (G : pb_G) (K : co_K) (h : pb_H) (o : Nat) (x : Nat → Int) (F : Nat → Nat → Int) (ex : Int → String) (r : Int × Int × (Nat → Int)) (w : Int) : pb_O → pb_H → Prop := fun oc h' => fr_P (fun _ c => bo_kk c) h h' ∧ ((r.1 = 0 ∧ oc = .inl (some (pb_i r.2.1)) ∧ bo_W G K h' o (bo_px x) (bo_pF F r.2.2)) ∨ (r.1 ≠ 0 ∧ (∃ q, oc = .inr (ex r.1, q)) ∧ bo_W G K h' o (if ex r.1 = xUOE then va_up x 2 w else x) F))
theorem op_ex_in (k : Nat) (c : Int) : op_ex k c = xISE ∨ op_ex k c = xIOB ∨ op_ex k c = xIAE ∨ op_ex k c = xNSE ∨ op_ex k c = xLR := by
  unfold op_ex
  split <;> (first | unfold ex_st | unfold ex_hull | unfold ex_hull2 | unfold ex_lau | unfold ex_arg | unfold ex_ord | unfold ex_del) <;> (repeat' split) <;> simp
theorem nc_LR {E : String} (hSF : pb_SF G) (h : E = xISE ∨ E = xIOB ∨ E = xIAE ∨ E = xNSE) : pb_nc G E xLR := by
  rcases h with h | h | h | h <;> rw [h]
  · exact nc_ISE_LR hSF
  · exact nc_IOB_LR hSF
  · exact nc_IAE_LR hSF
  · exact nc_NSE_LR hSF
theorem xUOE_ne : ∀ E, E = xISE ∨ E = xIOB ∨ E = xIAE ∨ E = xNSE → E ≠ xUOE := by
  intro E h z
  rcases h with h | h | h | h <;> (rw [h] at z; revert z; decide +kernel)
theorem bo_modify {p : Nat} {a b c : Int} (hG : co_G G K) (hK : co_W K h) (hU : bo_W G K h o x F) (ok : bo_ok t x F) (ht : t + 99 ≤ 200000) (hD : ∀ z, h.1 ≤ z → co_D K z) (k : Nat) (hk : k < 12) (ha : pb_rg a) (hb : pb_rg b) (hc : pb_rg c) (hop : h.2 p = some (pb_ob 4 [pb_i (op_c k), pb_i a, pb_i b, pb_i c])) : pb_Ctr G mX1_modify 12 800 3000 [pb_r o, pb_r p] h (bo_mQ G K h o x F (mo_exu k) (op_sp (F 0) k a b c) (op_w (F 0) k a)) := by
  obtain ⟨A, S, Y, B, hU⟩ := hU
  have u1 := hU.1
  refine pb_Ctr.ofW rfl rfl rfl tX1_modify_ok rfl ?_
  (try refine pb_Ex.run rfl ?_)
  refine pb_Ex.sf (fun hSF => ?_)
  refine pb_Ex.bg (fun hbg => ?_)
  refine pb_Ex.fin (fun hf => ?_)
  refine pb_Ex.getf rfl rfl u1 rfl ?_
  (try refine pb_Ex.run rfl ?_)
  refine pb_Ex.cV rfl rfl rfl rfl hU.2.1.1 rfl rfl (yd_copy hG hK hU.2.1 ok.1 hD) ⟨by omega, by omega, by omega⟩ (fun v h1 hq => ?_) (fun E q h1 hq => by cases hq.1)
  obtain ⟨e1, A', a0, w1, w2, w3, w4, x1⟩ := hq
  cases e1
  have hU1 := hU.x x1
  have hs1 := x1.1
  rw [← a0]
  (try refine pb_Ex.run rfl ?_)
  have sk : ∀ h2, fr_P (fun b _ => b < h.1) h1 h2 → fr_x h h2 := fun h2 q => ⟨Nat.le_trans hs1 q.1, fun b c hb _ => q.2 b c (x1.at hb) (hf b c hb)⟩
  refine pb_Ex.cV rfl rfl rfl rfl (x1.at hop) rfl rfl (op_apply hG (hK.x hG x1) w1 ok.1 ht w2 hs1 hbg (fun z hz => hD z (by omega)) k hk a b c ha hb hc (x1.at hop)) ⟨by omega, by omega, by omega⟩ (fun v h2 hq => ?_) (fun E q h2 hq => ?_)
  · obtain ⟨q1, q2⟩ := hq
    rcases q2 with ⟨q2, q3, A2, q4, q5, q6⟩ | ⟨q2, q, q3, -⟩
    · cases q3
      have x2 := sk h2 q1
      have hU2 := hU.x x2
      rw [← q4]
      refine pb_Ex.cV rfl rfl rfl rfl hU2.1 rfl rfl (bo_commit hU2 ok.2.2.1 q5) ⟨by omega, by omega, by omega⟩ (fun v h3 hq => ?_) (fun E q h1 hq => by cases hq.1)
      obtain ⟨e1, r1, r2⟩ := hq
      cases e1
      (try refine pb_Ex.run rfl ?_)
      refine pb_Ex.iret rfl rfl (by omega) (by omega) (⟨(x2.P).tr r1, Or.inl ⟨q2, rfl, r2⟩⟩)
    · cases q3
  · obtain ⟨q1, q2⟩ := hq
    rcases q2 with ⟨q2, q3, -⟩ | ⟨q2, q, q3, q4⟩
    · cases q3
    · cases q3
      have x2 := sk h2 q1
      have hU2 := hU.x x2
      by_cases cx : op_ex k (op_sp (F 0) k a b c).1 = xLR
      · obtain ⟨r1, r2, hq9⟩ := q4 cx
        have eu : mo_exu k (op_sp (F 0) k a b c).1 = xUOE := if_pos cx
        rw [cx]
        refine pb_Xx.catch (nm := xLR) [] _ [] rfl (fun z hz => absurd hz List.not_mem_nil) (by show 8 ≤ 12 ∧ 12 < 18; omega) (by show 33 ≠ 0; omega) rfl q758 ?_
        (try refine pb_Ex.run rfl ?_)
        refine pb_Ex.getf rfl rfl hq9 rfl ?_
        (try refine pb_Ex.run rfl ?_)
        refine pb_Ex.putf rfl rfl (hU2.1) rfl rfl (by first | trivial | exact Or.inl rfl | exact Or.inr rfl | (show _ ∨ _; omega) | (show _ ∧ _; omega)) ?_
        (try refine pb_Ex.run rfl ?_)
        have nq : q ≠ o := fun z => by rw [z, hU2.1] at hq9; cases hq9
        refine pb_Ex.thr pb_xUOE hG.2.2.1 rfl rfl rfl rfl rfl rfl rfl (by omega) (by omega) (by omega) (fun sz hsz => pb_Xx.outP rfl (fun z hz => ?_) (by omega) (by omega) ?_)
        · rcases List.mem_cons.mp hz with z1 | z1
          · rw [z1]; exact Or.inl (by show ¬ (8 ≤ 35 ∧ 35 < 18); omega)
          · exact absurd z1 List.not_mem_nil
        · have hp := hU2.put (h' := (sz, (pb_set h2 o (pb_ob 0 ([pb_r (A 0), (if x 0 = 0 then pb_0 else pb_r (S 0)), pb_r (B 0), pb_i (x 2), pb_i (x 3), pb_i (x 4), pb_r (B 3), pb_r (B 5)].set 3 (pb_i (op_w (F 0) k a))))).2)) (Nat.le_of_lt hsz) (fun b b1 _ _ => pb_set_ne b1)
          obtain ⟨p1, p2, p3, p4, p5, p6, p7⟩ := hp
          refine ⟨(x2.P).tr p1, Or.inr ⟨q2, ⟨_, by rw [eu]⟩, ?_⟩⟩
          rw [if_pos eu]
          obtain ⟨u1, u2, u3, u4, u6, u7, u8, u9⟩ := hU2
          exact ⟨A, S, Y, B, pb_set_same, p2 _ _ u2, fun z => p2 _ _ (u3 z), ⟨p3, u4.2.cg (pb_set_ne (Ne.symm p6)) (pb_set_ne (Ne.symm p7))⟩, fun i hi => p2 _ _ (u6 i hi), p4, p5, u9⟩
      · have hE : op_ex k (op_sp (F 0) k a b c).1 = xISE ∨ op_ex k (op_sp (F 0) k a b c).1 = xIOB ∨ op_ex k (op_sp (F 0) k a b c).1 = xIAE ∨ op_ex k (op_sp (F 0) k a b c).1 = xNSE := by
          rcases op_ex_in k (op_sp (F 0) k a b c).1 with z | z | z | z | z
          · exact Or.inl z
          · exact Or.inr (Or.inl z)
          · exact Or.inr (Or.inr (Or.inl z))
          · exact Or.inr (Or.inr (Or.inr z))
          · exact absurd z cx
        have eu : mo_exu k (op_sp (F 0) k a b c).1 = op_ex k (op_sp (F 0) k a b c).1 := if_neg cx
        refine pb_Xx.outP rfl (fun z hz => ?_) (by omega) (by omega) ⟨x2.P, Or.inr ⟨q2, ⟨q, by rw [eu]⟩, ?_⟩⟩
        · rcases List.mem_cons.mp hz with z1 | z1
          · rw [z1]; exact Or.inr ⟨by show 33 ≠ 0; omega, _, rfl, nc_LR hSF hE⟩
          · exact absurd z1 List.not_mem_nil
        · rw [if_neg (by rw [eu]; exact xUOE_ne _ hE)]
          exact ⟨A, S, Y, B, hU2⟩
end MODI
