set_option maxRecDepth 100000
/-! THE USE: its numbers x (0 is there a snapshot, 1 how many yards of before, 2 refusal, 3 error, 4 failed, 5 the line's length, 6 the buffer's), F (0 the yard's, 1 the snapshot's, 2 the line's, 3 the buffer's, 4 + i the i-th yard's of before) -/
def bo_kd (K : co_K) (b : Nat) (c : pb_C) : Prop := (∃ ci fs, c = pb_ob ci fs ∧ (ci = 0 ∨ ci = 1 ∨ ci = 2 ∨ ci = 5 ∨ ci = 6 ∨ ci = 8 ∨ ci = 12 ∨ ci = 13 ∨ ci = 14 ∨ ci = 15)) ∨ (∃ N g, c = pb_aR N g) ∨ (∃ N g, c = pb_aI 0 N g ∧ co_D K b) ∨ (∃ N g, c = pb_aI 4 N g)
theorem bo_kd.ob {K : co_K} {b ci : Nat} {fs : List pb_V} (h : ci = 0 ∨ ci = 1 ∨ ci = 2 ∨ ci = 5 ∨ ci = 6 ∨ ci = 8 ∨ ci = 12 ∨ ci = 13 ∨ ci = 14 ∨ ci = 15) : bo_kd K b (pb_ob ci fs) := Or.inl ⟨ci, fs, rfl, h⟩
theorem bo_kd.aR {K : co_K} {b N : Nat} {g : Nat → Option Nat} : bo_kd K b (pb_aR N g) := Or.inr (Or.inl ⟨N, g, rfl⟩)
theorem bo_kd.aI {K : co_K} {b N : Nat} {g : Nat → Int} (h : co_D K b) : bo_kd K b (pb_aI 0 N g) := Or.inr (Or.inr (Or.inl ⟨N, g, rfl, h⟩))
theorem bo_kd.aB {K : co_K} {b N : Nat} {g : Nat → Int} : bo_kd K b (pb_aI 4 N g) := Or.inr (Or.inr (Or.inr ⟨N, g, rfl⟩))
theorem yd_kd {K : co_K} {h : pb_H} {A : Nat → Nat} {f : Nat → Int} (hW : yd_W K h A f) : ∀ i, i < 7 + 4 * (f 0).toNat → ∀ c, h.2 (A i) = some c → bo_kd K (A i) c := by
  obtain ⟨k1, ⟨_, _, _, k2, k2', -⟩, k3, ⟨g, ⟨_, _, _, k4, k4', -⟩, k5⟩, ⟨c1, k6, k7⟩, ⟨c2, k8, k9⟩, k10, k11⟩ := hW
  intro i hi c hc
  by_cases c7 : i < 7
  · match i, c7 with
    | 0, _ => rw [k1] at hc; cases hc; exact bo_kd.ob (by omega)
    | 1, _ => rw [k2] at hc; cases hc; exact bo_kd.ob (by omega)
    | 2, _ => rw [k4] at hc; cases hc; exact bo_kd.ob (by omega)
    | 3, _ => rw [k6] at hc; cases hc; exact bo_kd.aI k10
    | 4, _ => rw [k8] at hc; cases hc; exact bo_kd.aI k11
    | 5, _ => rw [k2'] at hc; cases hc; exact bo_kd.aR
    | 6, _ => rw [k4'] at hc; cases hc; exact bo_kd.aR
  · obtain ⟨k, i', hk, hi', e⟩ : ∃ k i', k < (f 0).toNat ∧ i' < 4 ∧ i = 7 + 4 * k + i' := ⟨(i - 7) / 4, (i - 7) % 4, by omega, by omega, by omega⟩
    subst e
    obtain ⟨m1, ⟨g, ⟨_, _, _, m2, m3, -⟩, -⟩, ⟨c2, m4, -⟩, m5⟩ := k3 k hk
    match i', hi' with
    | 0, _ => have hc : h.2 (A (7 + 4 * k + 0)) = some c := hc; rw [m1] at hc; cases hc; exact bo_kd.ob (by omega)
    | 1, _ => rw [m2] at hc; cases hc; exact bo_kd.ob (by omega)
    | 2, _ => rw [m4] at hc; cases hc; exact bo_kd.aI m5
    | 3, _ => rw [m3] at hc; cases hc; exact bo_kd.aR
/-- a frame that keeps such cells keeps yards -/
theorem yd_W.kd {K : co_K} {h h' : pb_H} {A : Nat → Nat} {f : Nat → Int} {P : Nat → pb_C → Prop} (hW : yd_W K h A f) (hx : fr_P P h h') (hP : ∀ b c, h.2 b = some c → bo_kd K b c → P b c) : yd_W K h' A f :=
  hW.fr hx (fun i hi c hc => hP _ _ hc (yd_kd hW i hi c hc)) (fun b fs hb => hP _ _ hb (bo_kd.ob (by omega))) (fun b fs hb => hP _ _ hb (bo_kd.ob (by omega)))
/-- with its addresses: A the yard's, S the snapshot's, Y the yards' of before, B: 0 history, 1 deque, 2 its array, 3 line, 4 its bytes, 5 buffer, 6 its bytes -/
def bo_U (G : pb_G) (K : co_K) (h : pb_H) (o : Nat) (A S : Nat → Nat) (Y : Nat → Nat → Nat) (B : Nat → Nat) (x : Nat → Int) (F : Nat → Nat → Int) : Prop :=
  h.2 o = some (pb_ob 0 [pb_r (A 0), (if x 0 = 0 then pb_0 else pb_r (S 0)), pb_r (B 0), pb_i (x 2), pb_i (x 3), pb_i (x 4), pb_r (B 3), pb_r (B 5)]) ∧
  yd_W K h A (F 0) ∧ (x 0 ≠ 0 → yd_W K h S (F 1)) ∧ hi_W h (B 0) (B 1) (B 2) (x 1).toNat (fun i => Y i 0) ∧
  (∀ i, i < (x 1).toNat → yd_W K h (Y i) (F (4 + i))) ∧ st_W h (B 3) (B 4) (x 5).toNat (F 2) ∧ sb_W G h (B 5) (B 6) (x 6).toNat (F 3) ∧ B 4 ≠ B 6
def bo_W (G : pb_G) (K : co_K) (h : pb_H) (o : Nat) (x : Nat → Int) (F : Nat → Nat → Int) : Prop := ∃ A S Y B, bo_U G K h o A S Y B x F
theorem bo_U.kd {G : pb_G} {K : co_K} {h h' : pb_H} {o : Nat} {A S B : Nat → Nat} {Y : Nat → Nat → Nat} {x : Nat → Int} {F : Nat → Nat → Int} {P : Nat → pb_C → Prop} (hU : bo_U G K h o A S Y B x F) (hx : fr_P P h h') (hP : ∀ b c, h.2 b = some c → bo_kd K b c → P b c) : bo_U G K h' o A S Y B x F := by
  obtain ⟨u1, u2, u3, ⟨u4, u5⟩, u6, u7, u8, u9⟩ := hU
  have q5 := u5
  obtain ⟨hd, q, d1, d2, d3, d4, d5⟩ := q5
  have q7 := u7
  obtain ⟨s1, s2, g, s3, s4⟩ := q7
  have q8 := u8
  obtain ⟨cap, ml, g2, b1, b2, b3, -⟩ := q8
  refine ⟨hx.2 _ _ u1 (hP _ _ u1 (bo_kd.ob (by omega))), u2.kd hx hP, fun z => (u3 z).kd hx hP, ⟨hx.2 _ _ u4 (hP _ _ u4 (bo_kd.ob (by omega))), u5.fr hx (fun c hc => ?_) (fun c hc => ?_)⟩, fun i hi => (u6 i hi).kd hx hP, u7.fr hx (fun c hc => ?_) (fun c hc => ?_), u8.fr hx (fun c hc => ?_) (fun c hc => ?_), u9⟩
  · rw [d1] at hc; cases hc; exact hP _ _ d1 (bo_kd.ob (by omega))
  · rw [d4] at hc; cases hc; exact hP _ _ d4 bo_kd.aR
  · rw [s1] at hc; cases hc; exact hP _ _ s1 (bo_kd.ob (by omega))
  · rw [s3] at hc; cases hc; exact hP _ _ s3 bo_kd.aB
  · rw [b2] at hc; cases hc; exact hP _ _ b2 (bo_kd.ob (by omega))
  · rw [b3] at hc; cases hc; exact hP _ _ b3 bo_kd.aB
theorem bo_U.x {G : pb_G} {K : co_K} {h h' : pb_H} {o : Nat} {A S B : Nat → Nat} {Y : Nat → Nat → Nat} {x : Nat → Int} {F : Nat → Nat → Int} (hU : bo_U G K h o A S Y B x F) (hx : fr_x h h') : bo_U G K h' o A S Y B x F := hU.kd hx (fun _ _ _ _ => trivial)
theorem bo_W.kd {G : pb_G} {K : co_K} {h h' : pb_H} {o : Nat} {x : Nat → Int} {F : Nat → Nat → Int} {P : Nat → pb_C → Prop} (hU : bo_W G K h o x F) (hx : fr_P P h h') (hP : ∀ b c, h.2 b = some c → bo_kd K b c → P b c) : bo_W G K h' o x F := by
  obtain ⟨A, S, Y, B, h1⟩ := hU
  exact ⟨A, S, Y, B, h1.kd hx hP⟩
theorem bo_W.x {G : pb_G} {K : co_K} {h h' : pb_H} {o : Nat} {x : Nat → Int} {F : Nat → Nat → Int} (hU : bo_W G K h o x F) (hx : fr_x h h') : bo_W G K h' o x F := hU.kd hx (fun _ _ _ _ => trivial)
/-- what is asked of the numbers -/
def bo_ok (t : Nat) (x : Nat → Int) (F : Nat → Nat → Int) : Prop := ya_ok t (F 0) ∧ (x 0 = 0 ∨ (x 0 = 1 ∧ ya_ok t (F 1))) ∧ (0 ≤ x 1 ∧ x 1 ≤ 8) ∧ (∀ i, i < (x 1).toNat → ya_ok t (F (4 + i))) ∧ (-1 ≤ x 2 ∧ x 2 ≤ 3) ∧ (-1 ≤ x 3 ∧ x 3 ≤ 60) ∧ (-1 ≤ x 4 ∧ x 4 ≤ 60) ∧ (0 ≤ x 5 ∧ x 5 ≤ 100) ∧ (0 ≤ x 6 ∧ x 6 ≤ 60) ∧ ∀ j : Nat, (j : Int) < x 6 → 32 ≤ F 3 j ∧ F 3 j ≤ 126
theorem bo_ok.mono {t t' : Nat} {x : Nat → Int} {F : Nat → Nat → Int} (h : bo_ok t x F) (h1 : t ≤ t') (h2 : t' ≤ 200000) : bo_ok t' x F := by
  obtain ⟨a1, a2, a3, a4, a5⟩ := h
  exact ⟨a1.mono h1 h2, a2.imp id (fun q => ⟨q.1, q.2.mono h1 h2⟩), a3, fun i hi => (a4 i hi).mono h1 h2, a5⟩
/-- cells that no call of the use's changes: all but the use, the deque, the buffer (their arrays), and all of before the law -/
def bo_kk (c : pb_C) : Prop := match c with
  | .inl (k, _, _) => k ≠ 4
  | .inr (.inr (.inr (.inl (N, _)))) => N ≠ 17
  | .inr (.inr (.inr (.inr (ci, _)))) => ci ≠ 0 ∧ ci ≠ 13 ∧ ci ≠ 14
  | _ => True
def bo_kp (G : pb_G) (b : Nat) (c : pb_C) : Prop := b < pb_b G ∨ bo_kk c
theorem fr_P.tr2 {P : Nat → pb_C → Prop} {h h' h'' : pb_H} (a : fr_P P h h') (b : fr_P P h' h'') : fr_P P h h'' := fr_P.tr a b
theorem bo_lo {G : pb_G} {h h' : pb_H} (hf : fr_fin h) (hx : fr_P (fun b _ => b < h.1) h h') : fr_x h h' := ⟨hx.1, fun b c hb _ => hx.2 b c hb (hf b c hb)⟩
