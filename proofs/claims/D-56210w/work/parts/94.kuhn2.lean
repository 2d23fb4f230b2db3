set_option maxRecDepth 100000
def kf_r (t : Nat → Int) (v : Int) : Nat → Int := va_up (va_up (va_up (va_up t 0 v) 1 v) 2 v) 3 v
/-- the hulls below k were tried: the state, how many lie on slips -/
noncomputable def km (f : Nat → Int) : Nat → kf_S × Int
  | 0 => ((kf_r (fun _ => 0) (-1), fun _ => 0), 0)
  | k + 1 => ((kf f 5 k ((km f k).1.1, kf_r (km f k).1.2 0)).2, (km f k).2 + (if (kf f 5 k ((km f k).1.1, kf_r (km f k).1.2 0)).1 = true then 1 else 0))
theorem kf_r_at (t : Nat → Int) (v : Int) : ∀ i, i < 4 → kf_r t v i = v := by
  intro i hi
  have : i = 0 ∨ i = 1 ∨ i = 2 ∨ i = 3 := by omega
  rcases this with rfl | rfl | rfl | rfl <;> rfl
theorem kf_un4 (t : Nat → Int) : kf_un t ≤ 4 := by
  unfold kf_un
  split <;> split <;> split <;> split <;> omega
theorem km_ok {f : Nat → Int} : ∀ k : Nat, (k : Int) ≤ f 0 → kf_ok f ((km f k).1.1, kf_r (km f k).1.2 0)
  | 0, _ => fun i hi => ⟨Or.inl (kf_r_at _ _ i hi), Or.inl (kf_r_at _ _ i hi)⟩
  | k + 1, h => fun i hi => by
    have ih := km_ok (f := f) k (by omega)
    have o := (kf_okn (f := f) 5 k _ (by omega) ih).1 i hi
    exact ⟨o.1, Or.inl (kf_r_at _ _ i hi)⟩
theorem km_rg (f : Nat → Int) : ∀ k : Nat, 0 ≤ (km f k).2 ∧ (km f k).2 ≤ k
  | 0 => ⟨Int.le_refl _, Int.le_refl _⟩
  | k + 1 => by
    have := km_rg f k
    show 0 ≤ (km f k).2 + (if (kf f 5 k ((km f k).1.1, kf_r (km f k).1.2 0)).1 = true then 1 else 0) ∧ (km f k).2 + (if (kf f 5 k ((km f k).1.1, kf_r (km f k).1.2 0)).1 = true then 1 else 0) ≤ (k + 1 : Nat)
    split <;> omega
section KUHN2
variable {G : pb_G} {K : co_K} {h h0 : pb_H} {A : Nat → Nat} {f : Nat → Int} {t o : Nat}
theorem kf_init (hG : co_G G K) (hf : fr_fin h0) (hW : yd_W K h0 A f) (ok : ya_ok t f) (hb : h.2 o = some (pb_ob 9 [pb_0, pb_0, pb_i 0, pb_0])) (ho0 : h0.1 ≤ o) (hx : fr_x h0 h) : pb_Ctr G mX11_init 10 2 8 [pb_r o, pb_r (A 0)] h (fun oc h' => oc = .inl none ∧ ∃ a b, kf_W h0 h' A o a b (km f (f 0).toNat).2 (km f (f 0).toNat).1) := by
  have hm := ok.num
  refine pb_Ctr.of rfl rfl rfl tX11_init_ok rfl ?_
  (try refine pb_Ex.run rfl ?_)
  refine pb_Ex.fin (fun hfh => ?_)
  have hol := hfh _ _ hb
  have hh := hx.1
  refine pb_Ex.putfF rfl rfl (hb) (Or.inl rfl) (fun r hr => by cases hr; rfl) rfl (by first | trivial | exact Or.inl rfl | exact Or.inr rfl | (show _ ∨ _; omega) | (show _ ∧ _; omega)) ?_
  (try refine pb_Ex.run rfl ?_)
  refine pb_Ex.objI rfl rfl rfl (by omega) ?_
  refine pb_Ex.run rfl ?_
  refine pb_Ex.newI 4 rfl rfl (by omega) (by omega) (by omega) ?_
  (try refine pb_Ex.run rfl ?_)
  have b1 : (pb_new (pb_set h o (pb_ob 9 ([pb_0, pb_0, pb_i 0, pb_0].set 3 (pb_r (A 0))))) (pb_aI 0 4 (fun _ => 0))).2 o = some (pb_ob 9 [pb_0, pb_0, pb_i 0, pb_r (A 0)]) := by rw [pb_new_ne (by show o ≠ h.1; omega)]; exact pb_set_same
  refine pb_Ex.putfF rfl rfl (b1) (Or.inl rfl) (fun r hr => by cases hr; rfl) rfl (by first | trivial | exact Or.inl rfl | exact Or.inr rfl | (show _ ∨ _; omega) | (show _ ∧ _; omega)) ?_
  (try refine pb_Ex.run rfl ?_)
  refine pb_Ex.newZ 4 rfl rfl (by omega) (by omega) (by omega) ?_
  (try refine pb_Ex.run rfl ?_)
  have b2 : (pb_new (pb_set (pb_new (pb_set h o (pb_ob 9 ([pb_0, pb_0, pb_i 0, pb_0].set 3 (pb_r (A 0))))) (pb_aI 0 4 (fun _ => 0))) o (pb_ob 9 ([pb_0, pb_0, pb_i 0, pb_r (A 0)].set 0 (pb_r h.1)))) (pb_aI 1 4 (fun _ => 0))).2 o = some (pb_ob 9 [pb_r h.1, pb_0, pb_i 0, pb_r (A 0)]) := by rw [pb_new_ne (by show o ≠ h.1 + 1; omega)]; exact pb_set_same
  refine pb_Ex.putfF rfl rfl (b2) (Or.inl rfl) (fun r hr => by cases hr; rfl) rfl (by first | trivial | exact Or.inl rfl | exact Or.inr rfl | (show _ ∨ _; omega) | (show _ ∧ _; omega)) ?_
  (try refine pb_Ex.run rfl ?_)
  have M0 : kf_W h0 (pb_set (pb_new (pb_set (pb_new (pb_set h o (pb_ob 9 ([pb_0, pb_0, pb_i 0, pb_0].set 3 (pb_r (A 0))))) (pb_aI 0 4 (fun _ => 0))) o (pb_ob 9 ([pb_0, pb_0, pb_i 0, pb_r (A 0)].set 0 (pb_r h.1)))) (pb_aI 1 4 (fun _ => 0))) o (pb_ob 9 ([pb_r h.1, pb_0, pb_i 0, pb_r (A 0)].set 1 (pb_r (h.1 + 1))))) A o h.1 (h.1 + 1) 0 (fun _ => 0, fun _ => 0) := by
    refine ⟨pb_set_same, ?_, ?_, ⟨ho0, hh, by omega⟩, ((((hx.st hf _ ho0).nw hf _).st hf _ ho0).nw hf _).st hf _ ho0⟩
    · rw [pb_set_ne (by omega), pb_new_ne (by show h.1 ≠ h.1 + 1; omega), pb_set_ne (by omega)]
      exact pb_new_same
    · rw [pb_set_ne (by omega)]
      exact pb_new_same
  show pb_Ex G mX11_init 10 2 8 _ _ _ _ _ _ (pb_set (pb_new (pb_set (pb_new (pb_set h o (pb_ob 9 ([pb_0, pb_0, pb_i 0, pb_0].set 3 (pb_r (A 0))))) (pb_aI 0 4 (fun _ => 0))) o (pb_ob 9 ([pb_0, pb_0, pb_i 0, pb_r (A 0)].set 0 (pb_r h.1)))) (pb_aI 1 4 (fun _ => 0))) o (pb_ob 9 ([pb_r h.1, pb_0, pb_i 0, pb_r (A 0)].set 1 (pb_r (h.1 + 1)))))
  generalize pb_set (pb_new (pb_set (pb_new (pb_set h o (pb_ob 9 ([pb_0, pb_0, pb_i 0, pb_0].set 3 (pb_r (A 0))))) (pb_aI 0 4 (fun _ => 0))) o (pb_ob 9 ([pb_0, pb_0, pb_i 0, pb_r (A 0)].set 0 (pb_r h.1)))) (pb_aI 1 4 (fun _ => 0))) o (pb_ob 9 ([pb_r h.1, pb_0, pb_i 0, pb_r (A 0)].set 1 (pb_r (h.1 + 1)))) = g0 at M0 ⊢
  obtain ⟨a, ha⟩ : ∃ a, a = h.1 := ⟨_, rfl⟩
  obtain ⟨b, hb9⟩ : ∃ b, b = h.1 + 1 := ⟨_, rfl⟩
  rw [← hb9, ← ha] at M0
  -- an array's value set
  have setA : ∀ (h2 : pb_H) (z : Int) (s : kf_S) (i : Nat) (v : Int), kf_W h0 h2 A o a b z s → kf_W h0 (pb_set h2 a (pb_aI 0 4 (va_up s.1 i v))) A o a b z (va_up s.1 i v, s.2) := by
    intro h2 z s i v M
    obtain ⟨m1, m2, m3, ⟨l1, l2, l3⟩, hx2⟩ := M
    have nab : a ≠ b := fun e => by rw [e, m3] at m2; cases m2
    have noa : o ≠ a := fun e => by rw [e, m2] at m1; cases m1
    exact ⟨by rw [pb_set_ne noa]; exact m1, pb_set_same, by rw [pb_set_ne (Ne.symm nab)]; exact m3, ⟨l1, l2, l3⟩, hx2.st hf _ l2⟩
  have setB : ∀ (h2 : pb_H) (z : Int) (s : kf_S) (i : Nat) (v : Int), kf_W h0 h2 A o a b z s → kf_W h0 (pb_set h2 b (pb_aI 1 4 (va_up s.2 i v))) A o a b z (s.1, va_up s.2 i v) := by
    intro h2 z s i v M
    obtain ⟨m1, m2, m3, ⟨l1, l2, l3⟩, hx2⟩ := M
    have nab : a ≠ b := fun e => by rw [e, m3] at m2; cases m2
    have nob : o ≠ b := fun e => by rw [e, m3] at m1; cases m1
    exact ⟨by rw [pb_set_ne nob]; exact m1, by rw [pb_set_ne nab]; exact m2, pb_set_same, ⟨l1, l2, l3⟩, hx2.st hf _ l3⟩
  have setO : ∀ (h2 : pb_H) (z z' : Int) (s : kf_S), kf_W h0 h2 A o a b z s → kf_W h0 (pb_set h2 o (pb_ob 9 ([pb_r a, pb_r b, pb_i z, pb_r (A 0)].set 2 (pb_i z')))) A o a b z' s := by
    intro h2 z z' s M
    obtain ⟨m1, m2, m3, ⟨l1, l2, l3⟩, hx2⟩ := M
    have nob : b ≠ o := fun e => by rw [e, m1] at m3; cases m3
    have noa : a ≠ o := fun e => by rw [e, m1] at m2; cases m2
    exact ⟨pb_set_same, by rw [pb_set_ne noa]; exact m2, by rw [pb_set_ne nob]; exact m3, ⟨l1, l2, l3⟩, hx2.st hf _ l1⟩
  have outer : ∀ (d k : Nat) (w : Int) (h2 : pb_H) (y3 : Option pb_V) (cc uu : Nat), k + d = (f 0).toNat → w = k → kf_W h0 h2 A o a b (km f k).2 (km f k).1 → cc ≤ 2 → uu ≤ 8 → pb_Ex G mX11_init 10 2 8 (fun oc h' => oc = .inl none ∧ ∃ a b, kf_W h0 h' A o a b (km f (f 0).toNat).2 (km f (f 0).toNat).1) cc uu 45 [some (pb_r o), some (pb_r (A 0)), some (pb_i w), y3] [] h2 := by
    intro d
    induction d with
    | zero =>
      intro k w h2 y3 cc uu hk hw M hc hu
      have ek : k = (f 0).toNat := by omega
      subst ek
      have hW2 := hW.x M.2.2.2.2
      obtain ⟨mc, ho⟩ := hW2.2.1.obj
      refine pb_Ex.run rfl ?_
      refine pb_Ex.getf rfl rfl hW2.1 rfl ?_
      (try refine pb_Ex.run rfl ?_)
      refine pb_Ex.pV rfl rfl rfl rfl (ho) rfl rfl (ja_size hW2.2.1) (by omega) (by omega) (by omega) ?_
      (try refine pb_Ex.run rfl ?_)
      refine pb_Ex.icmpT rfl (by omega) (by omega) (by first | decide | (simp only [pb_cmp]; omega) | simp [pb_cmp]) ?_
      (try refine pb_Ex.run rfl ?_)
      refine pb_Ex.vret rfl rfl (by omega) (by omega) (⟨rfl, a, b, M⟩)
    | succ d ih =>
      intro k w h2 y3 cc uu hk hw M hc hu
      subst hw
      have hW2 := hW.x M.2.2.2.2
      obtain ⟨mc, ho⟩ := hW2.2.1.obj
      refine pb_Ex.run rfl ?_
      refine pb_Ex.getf rfl rfl hW2.1 rfl ?_
      (try refine pb_Ex.run rfl ?_)
      refine pb_Ex.pV rfl rfl rfl rfl (ho) rfl rfl (ja_size hW2.2.1) (by omega) (by omega) (by omega) ?_
      (try refine pb_Ex.run rfl ?_)
      refine pb_Ex.icmpF rfl (by omega) (by omega) (by first | decide | (simp only [pb_cmp]; omega) | simp [pb_cmp]) ?_
      (try refine pb_Ex.run rfl ?_)
      refine pb_Ex.run rfl ?_
      refine pb_Ex.icmpF rfl (by omega) (by omega) (by first | decide | (simp only [pb_cmp]; omega) | simp [pb_cmp]) ?_
      (try refine pb_Ex.run rfl ?_)
      refine pb_Ex.getf rfl rfl M.1 rfl ?_
      (try refine pb_Ex.run rfl ?_)
      refine pb_Ex.zstat (0) rfl (M.2.2.1) (by omega) (by omega) (by omega) ?_
      (try refine pb_Ex.run rfl ?_)
      replace M := setB _ _ _ 0 0 M
      skip
      refine pb_Ex.run rfl ?_
      refine pb_Ex.icmpF rfl (by omega) (by omega) (by first | decide | (simp only [pb_cmp]; omega) | simp [pb_cmp]) ?_
      (try refine pb_Ex.run rfl ?_)
      refine pb_Ex.getf rfl rfl M.1 rfl ?_
      (try refine pb_Ex.run rfl ?_)
      refine pb_Ex.zstat (1) rfl (M.2.2.1) (by omega) (by omega) (by omega) ?_
      (try refine pb_Ex.run rfl ?_)
      replace M := setB _ _ _ 1 0 M
      skip
      refine pb_Ex.run rfl ?_
      refine pb_Ex.icmpF rfl (by omega) (by omega) (by first | decide | (simp only [pb_cmp]; omega) | simp [pb_cmp]) ?_
      (try refine pb_Ex.run rfl ?_)
      refine pb_Ex.getf rfl rfl M.1 rfl ?_
      (try refine pb_Ex.run rfl ?_)
      refine pb_Ex.zstat (2) rfl (M.2.2.1) (by omega) (by omega) (by omega) ?_
      (try refine pb_Ex.run rfl ?_)
      replace M := setB _ _ _ 2 0 M
      skip
      refine pb_Ex.run rfl ?_
      refine pb_Ex.icmpF rfl (by omega) (by omega) (by first | decide | (simp only [pb_cmp]; omega) | simp [pb_cmp]) ?_
      (try refine pb_Ex.run rfl ?_)
      refine pb_Ex.getf rfl rfl M.1 rfl ?_
      (try refine pb_Ex.run rfl ?_)
      refine pb_Ex.zstat (3) rfl (M.2.2.1) (by omega) (by omega) (by omega) ?_
      (try refine pb_Ex.run rfl ?_)
      replace M := setB _ _ _ 3 0 M
      skip
      refine pb_Ex.run rfl ?_
      refine pb_Ex.icmpT rfl (by omega) (by omega) (by first | decide | (simp only [pb_cmp]; omega) | simp [pb_cmp]) ?_
      (try refine pb_Ex.run rfl ?_)
      have okk := km_ok (f := f) k (by omega)
      refine pb_Ex.getf rfl rfl M.1 rfl ?_
      (try refine pb_Ex.run rfl ?_)
      refine pb_Ex.cV rfl rfl rfl rfl M.1 rfl rfl (kf_finds (K := K) (h0 := h0) (A := A) (f := f) hG hf hW ok (km f k).2 5 k ((km f k).1.1, kf_r (km f k).1.2 0) _ (by omega) (by have := kf_un4 (kf_r (km f k).1.2 0); show kf_un (kf_r (km f k).1.2 0) < 5; omega) okk M) ⟨by omega, by omega, by omega⟩ (fun vv h4 hq => ?_) (fun E q9 h5 hq => by cases hq.1)
      obtain ⟨e1, e2, e3⟩ := hq
      cases e1
      have eK : km f (k + 1) = ((kf f 5 k ((km f k).1.1, kf_r (km f k).1.2 0)).2, (km f k).2 + (if (kf f 5 k ((km f k).1.1, kf_r (km f k).1.2 0)).1 = true then 1 else 0)) := rfl
      by_cases c : (kf f 5 k ((km f k).1.1, kf_r (km f k).1.2 0)).1 = true
      · rw [if_pos c] at eK ⊢
        (try refine pb_Ex.run rfl ?_)
        refine pb_Ex.ifF rfl (by omega) (by first | decide | (simp only [pb_cmp]; omega) | simp [pb_cmp]) ?_
        (try refine pb_Ex.run rfl ?_)
        refine pb_Ex.putf rfl rfl (e2.1) rfl rfl (by first | trivial | exact Or.inl rfl | exact Or.inr rfl | (show _ ∨ _; omega) | (show _ ∧ _; omega)) ?_
        (try refine pb_Ex.run rfl ?_)
        refine ih (k + 1) _ _ _ _ _ (by omega) (by omega) ?_ (by omega) (by omega)
        rw [eK]
        exact setO _ _ _ _ e2
      · rw [if_neg c] at eK ⊢
        (try refine pb_Ex.run rfl ?_)
        refine pb_Ex.ifT rfl (by omega) (by first | decide | (simp only [pb_cmp]; omega) | simp [pb_cmp]) ?_
        (try refine pb_Ex.run rfl ?_)
        refine pb_Ex.putf rfl rfl (e2.1) rfl rfl (by first | trivial | exact Or.inl rfl | exact Or.inr rfl | (show _ ∨ _; omega) | (show _ ∧ _; omega)) ?_
        (try refine pb_Ex.run rfl ?_)
        refine ih (k + 1) _ _ _ _ _ (by omega) (by omega) ?_ (by omega) (by omega)
        rw [eK]
        exact setO _ _ _ _ e2
  refine pb_Ex.run rfl ?_
  refine pb_Ex.icmpF rfl (by omega) (by omega) (by first | decide | (simp only [pb_cmp]; omega) | simp [pb_cmp]) ?_
  (try refine pb_Ex.run rfl ?_)
  refine pb_Ex.getf rfl rfl M0.1 rfl ?_
  (try refine pb_Ex.run rfl ?_)
  refine pb_Ex.istat (0) rfl (M0.2.1) (by omega) (by omega) ?_
  (try refine pb_Ex.run rfl ?_)
  replace M0 := setA _ _ _ 0 (-1) M0
  refine pb_Ex.run rfl ?_
  refine pb_Ex.icmpF rfl (by omega) (by omega) (by first | decide | (simp only [pb_cmp]; omega) | simp [pb_cmp]) ?_
  (try refine pb_Ex.run rfl ?_)
  refine pb_Ex.getf rfl rfl M0.1 rfl ?_
  (try refine pb_Ex.run rfl ?_)
  refine pb_Ex.istat (1) rfl (M0.2.1) (by omega) (by omega) ?_
  (try refine pb_Ex.run rfl ?_)
  replace M0 := setA _ _ _ 1 (-1) M0
  refine pb_Ex.run rfl ?_
  refine pb_Ex.icmpF rfl (by omega) (by omega) (by first | decide | (simp only [pb_cmp]; omega) | simp [pb_cmp]) ?_
  (try refine pb_Ex.run rfl ?_)
  refine pb_Ex.getf rfl rfl M0.1 rfl ?_
  (try refine pb_Ex.run rfl ?_)
  refine pb_Ex.istat (2) rfl (M0.2.1) (by omega) (by omega) ?_
  (try refine pb_Ex.run rfl ?_)
  replace M0 := setA _ _ _ 2 (-1) M0
  refine pb_Ex.run rfl ?_
  refine pb_Ex.icmpF rfl (by omega) (by omega) (by first | decide | (simp only [pb_cmp]; omega) | simp [pb_cmp]) ?_
  (try refine pb_Ex.run rfl ?_)
  refine pb_Ex.getf rfl rfl M0.1 rfl ?_
  (try refine pb_Ex.run rfl ?_)
  refine pb_Ex.istat (3) rfl (M0.2.1) (by omega) (by omega) ?_
  (try refine pb_Ex.run rfl ?_)
  replace M0 := setA _ _ _ 3 (-1) M0
  refine pb_Ex.run rfl ?_
  refine pb_Ex.icmpT rfl (by omega) (by omega) (by first | decide | (simp only [pb_cmp]; omega) | simp [pb_cmp]) ?_
  (try refine pb_Ex.run rfl ?_)
  exact outer (f 0).toNat 0 0 _ _ _ _ (by omega) rfl M0 (by omega) (by omega)
end KUHN2
