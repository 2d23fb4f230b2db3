set_option maxRecDepth 100000
/-- the ways to lay l hulls more; rec: from the next hull on -/
def us_l (f : Nat → Int) (rec : Nat → Int → Int) (k m : Nat) (l : Int) : Nat → Nat → Int → Int
  | 0, _, acc => acc
  | d + 1, i, acc => if 0 < l ∧ m / 2 ^ i % 2 = 0 ∧ (f (21 + 28 * k) = 0 ∧ 2 ≤ f (22 + 28 * k) ∧ f (22 + 28 * k) ≤ f (17 + i)) then us_l f rec k m l d (i + 1) (acc + rec (m ||| 2 ^ i) (l - 1)) else us_l f rec k m l d (i + 1) acc
def us_F (f : Nat → Int) : Nat → Nat → Nat → Int → Int
  | 0, _, _, l => if l = 0 then 1 else 0
  | d + 1, k, m, l => us_l f (us_F f d (k + 1)) k m l 4 0 (us_F f d (k + 1) m l)
theorem us_or {m i : Nat} (hm : m < 16) (hi : i < 4) : m ||| 2 ^ i < 16 := Nat.or_lt_two_pow (n := 4) hm (Nat.pow_lt_pow_right (by omega) hi)
section USES
variable {G : pb_G} {K : co_K} {h : pb_H} {A : Nat → Nat} {f : Nat → Int} {t : Nat}
theorem us_none (f : Nat → Int) (rec : Nat → Int → Int) (k m : Nat) (l : Int) (hl : ¬ 0 < l) : ∀ (d i : Nat) (acc : Int), us_l f rec k m l d i acc = acc
  | 0, _, _ => rfl
  | d + 1, i, acc => by
    unfold us_l
    rw [if_neg (fun z => hl z.1)]
    exact us_none f rec k m l hl d (i + 1) acc
theorem yd_uses (hG : co_G G K) (hW : yd_W K h A f) (ok : ya_ok t f) : ∀ (d k m : Nat) (l : Int), k + d = (f 0).toNat → m < 16 → 0 ≤ l ∧ l ≤ 4 → pb_Ctr G mX2_uses (4 + d) 0 0 [pb_r (A 0), pb_i k, pb_i m, pb_i l] h (pb_P (some (pb_i (us_F f d k m l))) h) := by
  have hn := ok.num
  obtain ⟨mc, ho⟩ := hW.2.1.obj
  intro d
  induction d with
  | zero =>
    intro k m l hk hm hl
    unfold us_F
    refine pb_Ctr.of rfl rfl rfl tX2_uses_ok rfl ?_
    (try refine pb_Ex.run rfl ?_)
    refine pb_Ex.getf rfl rfl hW.1 rfl ?_
    (try refine pb_Ex.run rfl ?_)
    refine pb_Ex.pV rfl rfl rfl rfl (ho) rfl rfl (ja_size hW.2.1) (by omega) (by omega) (by omega) ?_
    (try refine pb_Ex.run rfl ?_)
    refine pb_Ex.icmp_ne rfl (by omega) (by omega) (fun c => ?_) (fun c => ?_)
    · omega
    · refine pb_Ex.run rfl ?_
      refine pb_Ex.if_ne rfl (by omega) (fun c2 => ?_) (fun c2 => ?_)
      · refine pb_Ex.run rfl ?_
        rw [if_neg (by omega)]
        refine pb_Ex.iret rfl rfl (by omega) (by omega) (⟨rfl, rfl⟩)
      · refine pb_Ex.run rfl ?_
        rw [if_pos (by omega)]
        refine pb_Ex.iret rfl rfl (by omega) (by omega) (⟨rfl, rfl⟩)
  | succ d ihd =>
    intro k m l hk hm hl
    show pb_Ctr G mX2_uses (4 + (d + 1)) 0 0 _ h (pb_P (some (pb_i (us_l f (us_F f d (k + 1)) k m l 4 0 (us_F f d (k + 1) m l)))) h)
    refine pb_Ctr.of rfl rfl rfl tX2_uses_ok rfl ?_
    (try refine pb_Ex.run rfl ?_)
    refine pb_Ex.getf rfl rfl hW.1 rfl ?_
    (try refine pb_Ex.run rfl ?_)
    refine pb_Ex.pV rfl rfl rfl rfl (ho) rfl rfl (ja_size hW.2.1) (by omega) (by omega) (by omega) ?_
    (try refine pb_Ex.run rfl ?_)
    refine pb_Ex.icmp_ne rfl (by omega) (by omega) (fun c => ?_) (fun c => ?_)
    · refine pb_Ex.run rfl ?_
      refine pb_Ex.pV rfl rfl rfl rfl (hW.1) rfl rfl (ihd (k + 1) m l (by omega) hm hl) (by omega) (by omega) (by omega) ?_
      (try refine pb_Ex.run rfl ?_)
      have loop : ∀ (e i : Nat) (z acc : Int), i + e = 4 → z = i → pb_Ex G mX2_uses (4 + (d + 1)) 0 0 (pb_P (some (pb_i (us_l f (us_F f d (k + 1)) k m l e i acc))) h) 0 0 35 [some (pb_r (A 0)), some (pb_i k), some (pb_i m), some (pb_i l), some (pb_i acc), some (pb_i z)] [] h := by
        intro e
        induction e with
        | zero =>
          intro i z acc hi hz
          refine pb_Ex.run rfl ?_
          refine pb_Ex.icmpT rfl (by omega) (by omega) (by first | decide | (simp only [pb_cmp]; omega) | simp [pb_cmp]) ?_
          (try refine pb_Ex.run rfl ?_)
          refine pb_Ex.iret rfl rfl (by omega) (by omega) (⟨rfl, rfl⟩)
        | succ e ih =>
          intro i z acc hi hz
          subst hz
          refine pb_Ex.run rfl ?_
          refine pb_Ex.icmpF rfl (by omega) (by omega) (by first | decide | (simp only [pb_cmp]; omega) | simp [pb_cmp]) ?_
          (try refine pb_Ex.run rfl ?_)
          by_cases c1 : 0 < l
          · refine pb_Ex.ifF rfl (by omega) (by first | decide | (simp only [pb_cmp]; omega) | simp [pb_cmp]) ?_
            (try refine pb_Ex.run rfl ?_)
            refine pb_Ex.ishr (a := m) (s := i) rfl (by omega) (by omega) ?_
            (try refine pb_Ex.run rfl ?_)
            refine pb_Ex.iandM 1 rfl (by omega) rfl ?_
            (try refine pb_Ex.run rfl ?_)
            unfold us_l
            by_cases c2 : m / 2 ^ i % 2 = 0
            · have e2 : ((m / 2 ^ i : Nat) : Int) % ((2 ^ 1 : Nat) : Int) = 0 := by omega
              rw [e2]
              refine pb_Ex.ifF rfl (by omega) (by first | decide | (simp only [pb_cmp]; omega) | simp [pb_cmp]) ?_
              (try refine pb_Ex.run rfl ?_)
              refine pb_Ex.pV rfl rfl rfl rfl (hW.1) rfl rfl (yd_fits hG hW ok k i (by omega) (by omega)) (by omega) (by omega) (by omega) ?_
              (try refine pb_Ex.run rfl ?_)
              by_cases c3 : f (21 + 28 * k) = 0 ∧ 2 ≤ f (22 + 28 * k) ∧ f (22 + 28 * k) ≤ f (17 + i)
              · rw [if_pos c3, if_pos ⟨c1, c2, c3⟩]
                refine pb_Ex.ifF rfl (by omega) (by first | decide | (simp only [pb_cmp]; omega) | simp [pb_cmp]) ?_
                (try refine pb_Ex.run rfl ?_)
                refine pb_Ex.ishl (a := 1) (s := i) rfl (by omega) (by have : 2 ^ i ≤ 2 ^ 4 := Nat.pow_le_pow_right (by omega) (by omega); omega) ?_
                rw [Nat.one_mul]
                (try refine pb_Ex.run rfl ?_)
                refine pb_Ex.ior (a := m) (b := 2 ^ i) rfl (by omega) (by have : 2 ^ i ≤ 2 ^ 4 := Nat.pow_le_pow_right (by omega) (by omega); omega) ?_
                (try refine pb_Ex.run rfl ?_)
                refine pb_Ex.pV rfl rfl rfl rfl (hW.1) rfl rfl (ihd (k + 1) (m ||| 2 ^ i) (l - 1) (by omega) (us_or hm (by omega)) (by omega)) (by omega) (by omega) (by omega) ?_
                (try refine pb_Ex.run rfl ?_)
                exact ih (i + 1) _ _ (by omega) (by omega)
              · rw [if_neg c3, if_neg (fun z => c3 z.2.2)]
                refine pb_Ex.ifT rfl (by omega) (by first | decide | (simp only [pb_cmp]; omega) | simp [pb_cmp]) ?_
                (try refine pb_Ex.run rfl ?_)
                exact ih (i + 1) _ _ (by omega) (by omega)
            · have e2 : ((m / 2 ^ i : Nat) : Int) % ((2 ^ 1 : Nat) : Int) = 1 := by omega
              rw [e2, if_neg (fun z => c2 z.2.1)]
              refine pb_Ex.ifT rfl (by omega) (by first | decide | (simp only [pb_cmp]; omega) | simp [pb_cmp]) ?_
              (try refine pb_Ex.run rfl ?_)
              exact ih (i + 1) _ _ (by omega) (by omega)
          · refine pb_Ex.ifT rfl (by omega) (by first | decide | (simp only [pb_cmp]; omega) | simp [pb_cmp]) ?_
            (try refine pb_Ex.run rfl ?_)
            rw [us_none _ _ _ _ _ c1]
            refine pb_Ex.iret rfl rfl (by omega) (by omega) (⟨rfl, rfl⟩)
      exact loop 4 0 0 _ (by omega) rfl
    · omega
end USES
