set_option maxRecDepth 100000
section SPEC35
/-- hull d may lie on slip i -/
abbrev ya_okh (f : Nat → Int) (i d : Nat) : Prop := (d : Int) < f 0 ∧ f (21 + 28 * d) = 0 ∧ 2 ≤ f (22 + 28 * d) ∧ f (22 + 28 * d) ≤ f (17 + i)
/-- how many hulls lie on slips i, i+1, .. by the code c; -1: it's no use of the slips -/
def ya_us (f : Nat → Int) : Nat → Nat → Nat → Nat → Int → Int
  | 0, _, _, _, n => n
  | m + 1, i, c, b, n => if c % 7 = 6 then ya_us f m (i + 1) (c / 7) b n else if ya_okh f i (c % 7) ∧ b / 2 ^ (c % 7) % 2 = 0 then ya_us f m (i + 1) (c / 7) (b ||| 2 ^ (c % 7)) (n + 1) else -1
theorem ya_us_rg (f : Nat → Int) : ∀ (m i c b : Nat) (n : Int), ya_us f m i c b n = -1 ∨ (n ≤ ya_us f m i c b n ∧ ya_us f m i c b n ≤ n + m)
  | 0, _, _, _, n => Or.inr (by unfold ya_us; omega)
  | m + 1, i, c, b, n => by
    unfold ya_us
    split
    · rcases ya_us_rg f m (i + 1) (c / 7) b n with h | h
      · exact Or.inl h
      · exact Or.inr (by push_cast; omega)
    · split
      · rcases ya_us_rg f m (i + 1) (c / 7) (b ||| 2 ^ (c % 7)) (n + 1) with h | h
        · exact Or.inl h
        · exact Or.inr (by push_cast; omega)
      · exact Or.inl rfl
def ya_use (f : Nat → Int) (c : Nat) : Int := ya_us f 4 0 c 0 0
/-- the most hulls on slips by the codes below c, and how many codes have so many -/
def ya_wu (f : Nat → Int) : Nat → Int × Int
  | 0 => (0, 0)
  | c + 1 => (max (ya_wu f c).1 (ya_use f c), if (ya_wu f c).1 < ya_use f c then 1 else if ya_use f c = (ya_wu f c).1 then (ya_wu f c).2 + 1 else (ya_wu f c).2)
theorem ya_use_rg (f : Nat → Int) (c : Nat) : -1 ≤ ya_use f c ∧ ya_use f c ≤ 4 := by
  have := ya_us_rg f 4 0 c 0 0
  unfold ya_use
  omega
theorem ya_wu_rg (f : Nat → Int) : ∀ c : Nat, (0 ≤ (ya_wu f c).1 ∧ (ya_wu f c).1 ≤ 4) ∧ 0 ≤ (ya_wu f c).2 ∧ (ya_wu f c).2 ≤ c
  | 0 => by simp [ya_wu]
  | c + 1 => by
    have h1 := ya_wu_rg f c
    have h2 := ya_use_rg f c
    refine ⟨?_, ?_⟩
    · show 0 ≤ max (ya_wu f c).1 (ya_use f c) ∧ max (ya_wu f c).1 (ya_use f c) ≤ 4
      omega
    · show 0 ≤ (if (ya_wu f c).1 < ya_use f c then 1 else if ya_use f c = (ya_wu f c).1 then (ya_wu f c).2 + 1 else (ya_wu f c).2) ∧ (if (ya_wu f c).1 < ya_use f c then 1 else if ya_use f c = (ya_wu f c).1 then (ya_wu f c).2 + 1 else (ya_wu f c).2) ≤ (c + 1 : Nat)
      split
      · omega
      · split <;> omega
end SPEC35
section MODEL12
variable {G : pb_G} {h : pb_H} {o : Nat} {A : Nat → Nat} {x : Nat → Int} {F : Nat → Nat → Int} {t : Nat} {g : Nat → Int}
theorem mo_useOf (hW : mo_W h o A x F) (ok : ya_ok t (F 0)) (c : Nat) (hc : c < 2401) : pb_Ctr G mX4_useOf 4 0 0 [pb_r o, pb_i c] h (pb_P (some (pb_i (ya_use (F 0) c))) h) := by
  have h0 := ok.num
  refine pb_Ctr.of rfl rfl rfl tX4_useOf_ok rfl ?_
  (try refine pb_Ex.run rfl ?_)
  have loop : ∀ (m i cc b : Nat) (n z2 z3 z5 : Int) (l6 l7 : Option pb_V), i + m = 4 → cc < 2401 → b < 64 → (0 ≤ n ∧ n ≤ i) → z2 = cc → z3 = b → z5 = i →
      pb_Ex G mX4_useOf 4 0 0 (pb_P (some (pb_i (ya_us (F 0) m i cc b n))) h) 0 0 10 [some (pb_r o), some (pb_i c), some (pb_i z2), some (pb_i z3), some (pb_i n), some (pb_i z5), l6, l7] [] h := by
    intro m
    induction m with
    | zero =>
      intro i cc b n z2 z3 z5 l6 l7 hi hcc hb hn h2 h3 h5
      subst h2 h3 h5
      refine pb_Ex.run rfl ?_
      refine pb_Ex.icmpT rfl (by omega) (by omega) (by first | decide | (simp only [pb_cmp]; omega) | simp [pb_cmp]) ?_
      (try refine pb_Ex.run rfl ?_)
      refine pb_Ex.iret rfl rfl (by omega) (by omega) (⟨rfl, rfl⟩)
    | succ m ih =>
      intro i cc b n z2 z3 z5 l6 l7 hi hcc hb hn h2 h3 h5
      subst h2 h3 h5
      refine pb_Ex.run rfl ?_
      refine pb_Ex.icmpF rfl (by omega) (by omega) (by first | decide | (simp only [pb_cmp]; omega) | simp [pb_cmp]) ?_
      (try refine pb_Ex.run rfl ?_)
      refine pb_Ex.irem rfl (by omega) (by omega) ?_
      have e6 : ((cc : Int) % 7) = ((cc % 7 : Nat) : Int) := by omega
      have e7 : ((cc : Int) / 7) = ((cc / 7 : Nat) : Int) := by omega
      rw [e6]
      refine pb_Ex.run rfl ?_
      refine pb_Ex.idiv rfl (by omega) (by omega) ?_
      rw [e7]
      refine pb_Ex.run rfl ?_
      unfold ya_us
      refine pb_Ex.icmp_ge rfl (by omega) (by omega) (fun c6 => ?_) (fun c6 => ?_)
      · rw [if_pos (by omega)]
        refine pb_Ex.run rfl ?_
        exact ih (i + 1) (cc / 7) b n _ _ _ _ _ (by omega) (by omega) hb (by push_cast; omega) rfl rfl (by omega)
      · rw [if_neg (by omega)]
        have h6 : cc % 7 < 6 := by omega
        refine pb_Ex.run rfl ?_
        refine pb_Ex.pV rfl rfl rfl rfl hW.1 rfl rfl (mo_isHull hW ok ((cc % 7 : Nat) : Int) (by omega)) (by omega) (by omega) (by omega) ?_
        (try refine pb_Ex.run rfl ?_)
        have hh := ok.hull h6
        have hsl := ok.sli (i := i) (by omega)
        unfold mo_in
        have fin : ∀ z7 : Int, z7 = (if ya_okh (F 0) i (cc % 7) then 1 else 0) → pb_Ex G mX4_useOf 4 0 0 (pb_P (some (pb_i (if ya_okh (F 0) i (cc % 7) ∧ b / 2 ^ (cc % 7) % 2 = 0 then ya_us (F 0) m (i + 1) (cc / 7) (b ||| 2 ^ (cc % 7)) (n + 1) else -1))) h) 0 0 90 [some (pb_r o), some (pb_i c), some (pb_i (cc / 7 : Nat)), some (pb_i b), some (pb_i n), some (pb_i i), some (pb_i (cc % 7 : Nat)), some (pb_i z7)] [pb_i z7] h := by
          intro z7 h7
          subst h7
          have hpw : 2 ^ (cc % 7) ≤ 2 ^ 5 := Nat.pow_le_pow_right (by omega) (by omega)
          by_cases c7 : ya_okh (F 0) i (cc % 7)
          · rw [if_pos c7]
            refine pb_Ex.ifF rfl (by omega) (by first | decide | (simp only [pb_cmp]; omega) | simp [pb_cmp]) ?_
            (try refine pb_Ex.run rfl ?_)
            refine pb_Ex.ishr rfl (by omega) (by omega) ?_
            refine pb_Ex.run rfl ?_
            refine pb_Ex.iandM 1 rfl (by omega) rfl ?_
            refine pb_Ex.run rfl ?_
            have e8 : (((b / 2 ^ (cc % 7) : Nat) : Int) % (2 ^ 1 : Nat)) = ((b / 2 ^ (cc % 7) % 2 : Nat) : Int) := by
              rw [Int.natCast_emod]
            rw [e8]
            refine pb_Ex.icmp_ne rfl (by omega) (by omega) (fun c8 => ?_) (fun c8 => ?_)
            · rw [if_pos ⟨c7, by omega⟩]
              refine pb_Ex.run rfl ?_
              refine pb_Ex.ishl (a := 1) rfl (by omega) (by omega) ?_
              rw [Nat.one_mul]
              refine pb_Ex.ior rfl (by omega) (by omega) ?_
              refine pb_Ex.run rfl ?_
              have hor : b ||| 2 ^ (cc % 7) < 2 ^ 6 := Nat.or_lt_two_pow (n := 6) hb (by omega)
              exact ih (i + 1) (cc / 7) (b ||| 2 ^ (cc % 7)) (n + 1) _ _ _ _ _ (by omega) (by omega) hor (by push_cast; omega) rfl rfl (by omega)
            · rw [if_neg (fun q => by omega)]
              refine pb_Ex.run rfl ?_
              refine pb_Ex.iret rfl rfl (by omega) (by omega) (⟨rfl, rfl⟩)
          · rw [if_neg c7, if_neg (fun q => c7 q.1)]
            refine pb_Ex.ifT rfl (by omega) (by first | decide | (simp only [pb_cmp]; omega) | simp [pb_cmp]) ?_
            (try refine pb_Ex.run rfl ?_)
            refine pb_Ex.iret rfl rfl (by omega) (by omega) (⟨rfl, rfl⟩)
        by_cases c9 : 0 ≤ ((cc % 7 : Nat) : Int) ∧ ((cc % 7 : Nat) : Int) ≤ F 0 0 - 1
        · rw [if_pos c9]
          refine pb_Ex.ifF rfl (by omega) (by first | decide | (simp only [pb_cmp]; omega) | simp [pb_cmp]) ?_
          (try refine pb_Ex.run rfl ?_)
          refine pb_Ex.pV rfl rfl rfl rfl hW.1 rfl rfl (mo_state hW (cc % 7) (by omega)) (by omega) (by omega) (by omega) ?_
          (try refine pb_Ex.run rfl ?_)
          refine pb_Ex.if_ne rfl (by omega) (fun c10 => ?_) (fun c10 => ?_)
          · refine pb_Ex.run rfl ?_
            exact fin 0 (by rw [if_neg (fun q => c10 q.2.1)])
          · refine pb_Ex.run rfl ?_
            refine pb_Ex.pV rfl rfl rfl rfl hW.1 rfl rfl (mo_frames hW (cc % 7) (by omega)) (by omega) (by omega) (by omega) ?_
            (try refine pb_Ex.run rfl ?_)
            refine pb_Ex.icmp_lt rfl (by omega) (by omega) (fun c11 => ?_) (fun c11 => ?_)
            · refine pb_Ex.run rfl ?_
              exact fin 0 (by rw [if_neg (fun q => by have := q.2.2.1; omega)])
            · refine pb_Ex.run rfl ?_
              refine pb_Ex.pV rfl rfl rfl rfl hW.1 rfl rfl (mo_frames hW (cc % 7) (by omega)) (by omega) (by omega) (by omega) ?_
              (try refine pb_Ex.run rfl ?_)
              refine pb_Ex.getf rfl rfl hW.1 rfl ?_
              (try refine pb_Ex.run rfl ?_)
              refine pb_Ex.iat (17 + i) rfl hW.2.1 (by omega) (by omega) ?_
              (try refine pb_Ex.run rfl ?_)
              refine pb_Ex.icmp_gt rfl (by omega) (by omega) (fun c12 => ?_) (fun c12 => ?_)
              · refine pb_Ex.run rfl ?_
                exact fin 0 (by rw [if_neg (fun q => by have := q.2.2.2; omega)])
              · refine pb_Ex.run rfl ?_
                exact fin 1 (by rw [if_pos ⟨by omega, c10, by omega, by omega⟩])
        · rw [if_neg c9]
          refine pb_Ex.ifT rfl (by omega) (by first | decide | (simp only [pb_cmp]; omega) | simp [pb_cmp]) ?_
          (try refine pb_Ex.run rfl ?_)
          exact fin 0 (by rw [if_neg (fun q => by have := q.1; omega)])
  exact loop 4 0 c 0 0 _ 0 0 _ _ (by omega) hc (by omega) (by omega) rfl rfl rfl
theorem mo_worksUses (hW : mo_W h o A x F) (ok : ya_ok t (F 0)) {a b : Int} (ha : a = (ya_wu (F 0) 2401).1) (hb : b = (ya_wu (F 0) 2401).2) : pb_Ctr G mX4_worksUses 5 0 0 [pb_r o] h (mo_Q o A h none (va_up (va_up x 13 a) 14 b) F) := by
  have hf : mo_Fr o A h h := mo_Fr.rf
  obtain ⟨N, hN⟩ : ∃ N, N = 2401 := ⟨_, rfl⟩
  rw [← hN] at ha hb
  refine pb_Ctr.of rfl rfl rfl tX4_worksUses_ok rfl ?_
  (try refine pb_Ex.run rfl ?_)
  refine pb_Ex.mput (x' := va_up x 13 0) rfl rfl hW hf rfl rfl (by first | trivial | exact Or.inl rfl | exact Or.inr rfl | (show _ ∨ _; omega)) (fun h1 hW hf => ?_)
  (try refine pb_Ex.run rfl ?_)
  refine pb_Ex.mput (x' := va_up (va_up x 13 0) 14 0) rfl rfl hW hf rfl rfl (by first | trivial | exact Or.inl rfl | exact Or.inr rfl | (show _ ∨ _; omega)) (fun h1 hW hf => ?_)
  (try refine pb_Ex.run rfl ?_)
  have loop : ∀ (m c : Nat) (h2 : pb_H) (z1 : Int) (l2 : Option pb_V), c + m = N → mo_W h2 o A (va_up (va_up x 13 (ya_wu (F 0) c).1) 14 (ya_wu (F 0) c).2) F → mo_Fr o A h h2 → z1 = c →
      pb_Ex G mX4_worksUses 5 0 0 (mo_Q o A h none (va_up (va_up x 13 a) 14 b) F) 0 0 12 [some (pb_r o), some (pb_i z1), l2] [] h2 := by
    intro m
    induction m with
    | zero =>
      intro c h2 z1 l2 hc hW hf h1
      have e : c = N := by omega
      subst e h1
      refine pb_Ex.run rfl ?_
      refine pb_Ex.icmpT rfl (by omega) (by omega) (by first | decide | (simp only [pb_cmp]; omega) | simp [pb_cmp]) ?_
      (try refine pb_Ex.run rfl ?_)
      rw [← ha, ← hb] at hW
      refine pb_Ex.vret rfl rfl (by omega) (by omega) (⟨rfl, hW, hf⟩)
    | succ m ih =>
      intro c h2 z1 l2 hc hW hf h1
      subst h1
      have r1 := ya_wu_rg (F 0) c
      have r2 := ya_use_rg (F 0) c
      have up14 : ∀ v : Int, va_up (va_up (va_up x 13 (ya_wu (F 0) c).1) 14 (ya_wu (F 0) c).2) 14 v = va_up (va_up x 13 (ya_wu (F 0) c).1) 14 v := fun v => va_upup _ _ _ _
      have up13 : ∀ v w : Int, va_up (va_up (va_up x 13 (ya_wu (F 0) c).1) 14 v) 13 w = va_up (va_up x 13 w) 14 v := by
        intro v w
        funext j
        by_cases a1 : j = 13
        · subst a1; simp [va_up]
        · by_cases a2 : j = 14
          · subst a2; simp [va_up]
          · simp [va_up, a1, a2]
      have fin : ∀ (v : Int), v = (ya_wu (F 0) (c + 1)).2 → pb_Ex G mX4_worksUses 5 0 0 (mo_Q o A h none (va_up (va_up x 13 a) 14 b) F) 0 0 59 [some (pb_r o), some (pb_i c), some (pb_i (ya_use (F 0) c))] [pb_j v, pb_r o] h2 := by
        intro v hv
        subst hv
        refine pb_Ex.mput (x' := va_up (va_up x 13 (ya_wu (F 0) c).1) 14 (ya_wu (F 0) (c + 1)).2) rfl rfl hW hf rfl rfl (by first | trivial | exact Or.inl rfl | exact Or.inr rfl | (show _ ∨ _; omega)) (fun h1 hW hf => ?_)
        (try refine pb_Ex.run rfl ?_)
        refine pb_Ex.getf rfl rfl hW.1 rfl ?_
        (try refine pb_Ex.run rfl ?_)
        show pb_Ex G _ _ _ _ _ _ _ _ _ (pb_i (ya_use (F 0) c) :: pb_i (ya_wu (F 0) c).1 :: _) _
        refine pb_Ex.mmax rfl rfl (by omega) (by omega) rfl (by omega) (by omega) (by omega) ?_
        (try refine pb_Ex.run rfl ?_)
        refine pb_Ex.mput (x' := va_up (va_up x 13 (ya_wu (F 0) (c + 1)).1) 14 (ya_wu (F 0) (c + 1)).2) rfl rfl hW hf rfl rfl (by first | trivial | exact Or.inl rfl | exact Or.inr rfl | (show _ ∨ _; omega)) (fun h1 hW hf => ?_)
        (try refine pb_Ex.run rfl ?_)
        exact ih (c + 1) _ _ _ (by omega) hW hf (by omega)
      refine pb_Ex.run rfl ?_
      refine pb_Ex.icmpF rfl (by omega) (by omega) (by first | decide | (simp only [pb_cmp]; omega) | simp [pb_cmp]) ?_
      (try refine pb_Ex.run rfl ?_)
      refine pb_Ex.pV rfl rfl rfl rfl hW.1 rfl rfl (mo_useOf hW ok c (by omega)) (by omega) (by omega) (by omega) ?_
      (try refine pb_Ex.run rfl ?_)
      refine pb_Ex.getf rfl rfl hW.1 rfl ?_
      (try refine pb_Ex.run rfl ?_)
      show pb_Ex G _ _ _ _ _ _ _ _ _ (pb_i (ya_wu (F 0) c).1 :: pb_i (ya_use (F 0) c) :: _) _
      refine pb_Ex.icmp_le rfl (by omega) (by omega) (fun c1 => ?_) (fun c1 => ?_)
      · refine pb_Ex.run rfl ?_
        refine pb_Ex.getf rfl rfl hW.1 rfl ?_
        (try refine pb_Ex.run rfl ?_)
        show pb_Ex G _ _ _ _ _ _ _ _ _ (pb_i (ya_wu (F 0) c).1 :: pb_i (ya_use (F 0) c) :: _) _
        refine pb_Ex.icmp_ne rfl (by omega) (by omega) (fun c2 => ?_) (fun c2 => ?_)
        · refine pb_Ex.run rfl ?_
          refine pb_Ex.getf rfl rfl hW.1 rfl ?_
          (try refine pb_Ex.run rfl ?_)
          exact fin (ya_wu (F 0) c).2 (by rw [ya_wu]; show _ = if _ then _ else _; rw [if_neg (by omega), if_neg c2])
        · refine pb_Ex.run rfl ?_
          refine pb_Ex.getf rfl rfl hW.1 rfl ?_
          (try refine pb_Ex.run rfl ?_)
          exact fin ((ya_wu (F 0) c).2 + 1) (by rw [ya_wu]; show _ = if _ then _ else _; rw [if_neg (by omega), if_pos c2])
      · refine pb_Ex.run rfl ?_
        exact fin 1 (by rw [ya_wu]; show _ = if _ then _ else _; rw [if_pos (by omega)])
  exact loop N 0 _ _ _ (by omega) hW hf rfl
theorem mo_mostOnSlips (hW : mo_W h o A x F) (ok : ya_ok t (F 0)) {a b : Int} (ha : a = (ya_wu (F 0) 2401).1) (hb : b = (ya_wu (F 0) 2401).2) : pb_Ctr G mX4_mostOnSlips 6 0 0 [pb_r o] h (mo_Q o A h (some (pb_i a)) (va_up (va_up (va_up x 9 0) 13 a) 14 b) F) := by
  have hf : mo_Fr o A h h := mo_Fr.rf
  refine pb_Ctr.of rfl rfl rfl tX4_mostOnSlips_ok rfl ?_
  (try refine pb_Ex.run rfl ?_)
  refine pb_Ex.mput (x' := va_up x 9 0) rfl rfl hW hf rfl rfl trivial (fun h1 hW hf => ?_)
  (try refine pb_Ex.run rfl ?_)
  refine pb_Ex.mc rfl rfl rfl rfl hW hf rfl rfl (mo_worksUses hW ok ha hb) (by omega) (by omega) (by omega) (fun h1 hW hf => ?_)
  (try refine pb_Ex.run rfl ?_)
  refine pb_Ex.getf rfl rfl hW.1 rfl ?_
  (try refine pb_Ex.run rfl ?_)
  show pb_Ex G _ _ _ _ _ _ _ _ _ [pb_i a] _
  refine pb_Ex.iret rfl rfl (by omega) (by omega) (⟨rfl, hW, hf⟩)
theorem mo_mostOnSlipsByLengths (hW : mo_W h o A x F) (ok : ya_ok t (F 0)) {a b : Int} (ha : a = (ya_wu (F 0) 2401).1) (hb : b = (ya_wu (F 0) 2401).2) : pb_Ctr G mX4_mostOnSlipsByLengths 7 0 0 [pb_r o] h (mo_Q o A h (some (pb_i a)) (va_up (va_up (va_up x 9 0) 13 a) 14 b) F) := by
  have hf : mo_Fr o A h h := mo_Fr.rf
  refine pb_Ctr.of rfl rfl rfl tX4_mostOnSlipsByLengths_ok rfl ?_
  (try refine pb_Ex.run rfl ?_)
  refine pb_Ex.mc rfl rfl rfl rfl hW hf rfl rfl (mo_mostOnSlips hW ok ha hb) (by omega) (by omega) (by omega) (fun h1 hW hf => ?_)
  (try refine pb_Ex.run rfl ?_)
  refine pb_Ex.iret rfl rfl (by omega) (by omega) (⟨rfl, hW, hf⟩)
theorem mo_bestUses (hW : mo_W h o A x F) (ok : ya_ok t (F 0)) {a b : Int} (ha : a = (ya_wu (F 0) 2401).1) (hb : b = (ya_wu (F 0) 2401).2) : pb_Ctr G mX4_bestUses 6 0 0 [pb_r o] h (mo_Q o A h (some (pb_i b)) (va_up (va_up (va_up x 9 0) 13 a) 14 b) F) := by
  have hf : mo_Fr o A h h := mo_Fr.rf
  refine pb_Ctr.of rfl rfl rfl tX4_bestUses_ok rfl ?_
  (try refine pb_Ex.run rfl ?_)
  refine pb_Ex.mput (x' := va_up x 9 0) rfl rfl hW hf rfl rfl trivial (fun h1 hW hf => ?_)
  (try refine pb_Ex.run rfl ?_)
  refine pb_Ex.mc rfl rfl rfl rfl hW hf rfl rfl (mo_worksUses hW ok ha hb) (by omega) (by omega) (by omega) (fun h1 hW hf => ?_)
  (try refine pb_Ex.run rfl ?_)
  refine pb_Ex.getf rfl rfl hW.1 rfl ?_
  (try refine pb_Ex.run rfl ?_)
  refine pb_Ex.l2i rfl ?_
  refine pb_Ex.iret rfl rfl (by omega) (by omega) (⟨rfl, hW, hf⟩)
end MODEL12
