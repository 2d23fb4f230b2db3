set_option maxRecDepth 100000
/-- the array of caulkings is scratch -/
def mo_Q12 (o : Nat) (A : Nat → Nat) (h : pb_H) (v : Option pb_V) (x : Nat → Int) (F : Nat → Nat → Int) : pb_O → pb_H → Prop := fun oc h' => ∃ g : Nat → Int, mo_Q o A h v x (va_up F 12 g) oc h'
section MODEL11
variable {G : pb_G} {h : pb_H} {o : Nat} {A : Nat → Nat} {x : Nat → Int} {F : Nat → Nat → Int} {t : Nat} {g : Nat → Int}
theorem mo_seams12 (hW : mo_W h o A x (va_up F 12 g)) (k : Nat) (hk : k < 6) (hn : ya_fr (F 0) k) : pb_Ctr G mX4_seams 3 0 0 [pb_r o, pb_i k] h (pb_P (some (pb_i (ya_se (F 0) k : Nat))) h) := mo_seams hW k hk hn
theorem mo_weight12 (hW : mo_W h o A x (va_up F 12 g)) (k : Nat) (hk : k < 6) (hn : ya_fr (F 0) k) : pb_Ctr G mX4_weight 4 0 0 [pb_r o, pb_i k] h (pb_P (some (pb_i (ya_wt (F 0) k))) h) := mo_weight hW k hk hn
theorem mo_draught12 (hW : mo_W h o A x (va_up F 12 g)) (k : Nat) (hk : k < 6) (hn : ya_fr (F 0) k) (hwd : 0 ≤ ya_wd (F 0) k ∧ ya_wd (F 0) k ≤ 840) (w : Int) (hw : pb_rg w) : pb_Ctr G mX4_draught 4 0 0 [pb_r o, pb_i k, pb_i w] h (pb_P (some (pb_i (ya_dr (ya_wd (F 0) k) w))) h) := mo_draught hW k hk hn hwd w hw
theorem mo_W.s12 (hW : mo_W h o A x F) : mo_W h o A x (va_up F 12 (F 12)) := hW.eqF (va_upid F 12).symm
theorem mo_W.m12 (hW : mo_W h o A x (va_up F 12 g)) : h.2 (A 12) = some (pb_aI 0 8 g) := hW.2.2.2.2.2.2.1
theorem mo_W.m12_0 (hW : mo_W h o A x (va_up F 12 g)) : h.2 (A 0) = some (pb_aI 0 213 (F 0)) := hW.2.1
theorem pb_Ex.ms12 {M : pb_M} {n C S : Nat} {Q : pb_O → pb_H → Prop} {k u pc : Nat} {L : List (Option pb_V)} {st : List pb_V} {h0 : pb_H} {nx tg : Nat} {z v : Int} (j : Nat) (hi : pb_ig (pb_tb M) pc = some (.iastore, nx, tg)) (hW : mo_W h o A x (va_up F 12 g)) (hf : mo_Fr o A h0 h) (hz : z = (j : Int)) (h1 : j < 8) (kk : ∀ h', mo_W h' o A x (va_up F 12 (va_up g j v)) → mo_Fr o A h0 h' → pb_Ex G M n C S Q k u nx L st h') : pb_Ex G M n C S Q k u pc L (pb_i v :: pb_i z :: pb_r (A 12) :: st) h := by
  refine pb_Ex.mst 12 j hi hW hf (by decide) rfl hz h1 (fun h' a b => kk h' ?_ b)
  exact a.eqF (va_upup F 12 _ _)
theorem ya_hi_rg {b : Bool} {p : Int × (Nat → Int)} {B : Int} (hp : 0 ≤ p.1 ∧ p.1 ≤ B) (hc : ∀ s : Nat, s < 8 → 0 ≤ p.2 s ∧ p.2 s ≤ 9) : ∀ n : Nat, n ≤ 8 → (0 ≤ (ya_hi b n p).1 ∧ (ya_hi b n p).1 ≤ B + 9 * n) ∧ ∀ s : Nat, s < 8 → 0 ≤ (ya_hi b n p).2 s ∧ (ya_hi b n p).2 s ≤ 9
  | 0, _ => ⟨by show 0 ≤ p.1 ∧ p.1 ≤ B + 9 * (0 : Nat); omega, hc⟩
  | n + 1, hn => by
    obtain ⟨h1, h2⟩ := ya_hi_rg (b := b) hp hc n (by omega)
    have h3 := h2 n (by omega)
    refine ⟨?_, fun s hs => ?_⟩
    · show 0 ≤ (ya_hi b n p).1 + (9 - (ya_hi b n p).2 n) ∧ (ya_hi b n p).1 + (9 - (ya_hi b n p).2 n) ≤ B + 9 * (n + 1 : Nat)
      omega
    · show 0 ≤ va_up (ya_hi b n p).2 n (if b then max 0 ((ya_hi b n p).2 n - 1) else (ya_hi b n p).2 n) s ∧ va_up (ya_hi b n p).2 n (if b then max 0 ((ya_hi b n p).2 n - 1) else (ya_hi b n p).2 n) s ≤ 9
      by_cases e : s = n
      · subst e
        rw [va_upS]
        cases b
        · simpa using h3
        · simp only [if_true]; omega
      · rw [va_upN _ _ e]
        exact h2 s hs
theorem ya_sk_rg (f : Nat → Int) (k : Nat) : ∀ (m n : Nat) (p : Int × (Nat → Int)), ya_sk f k n m p = -1 ∨ ((n : Int) ≤ ya_sk f k n m p ∧ ya_sk f k n m p < n + m)
  | 0, _, _ => Or.inl rfl
  | m + 1, n, p => by
    unfold ya_sk
    split
    · exact Or.inr (by omega)
    · rcases ya_sk_rg f k m (n + 1) (ya_hi (decide ((f 1 + n) % 6 = 0)) (ya_se f k) p) with h | h
      · exact Or.inl h
      · refine Or.inr ?_
        push_cast at h
        omega
theorem mo_hoursToSinking (hW : mo_W h o A x F) (ok : ya_ok t (F 0)) (z : Int) (hz : pb_rg z) : pb_Ctr G mX4_hoursToSinking 5 0 0 [pb_r o, pb_i z] h (mo_Q12 o A h (some (pb_i (qs_sink (F 0) z).2)) (va_up x 9 (qs_sink (F 0) z).1) F) := by
  have := ok.num
  unfold qs_sink
  have hf : mo_Fr o A h h := mo_Fr.rf
  refine pb_Ctr.of rfl rfl rfl tX4_hoursToSinking_ok rfl ?_
  (try refine pb_Ex.run rfl ?_)
  refine pb_Ex.mput (x' := va_up x 9 0) rfl rfl hW hf rfl rfl trivial (fun h1 hW hf => ?_)
  (try refine pb_Ex.run rfl ?_)
  refine pb_Ex.pV rfl rfl rfl rfl hW.1 rfl rfl (mo_isHull hW ok z hz) (by omega) (by omega) (by omega) ?_
  (try refine pb_Ex.run rfl ?_)
  unfold mo_in
  by_cases c : 0 ≤ z ∧ z ≤ F 0 0 - 1
  · rw [if_pos c, if_neg (show ¬ ¬ (0 ≤ z ∧ z < F 0 0) by omega)]
    obtain ⟨k, rfl⟩ := Int.eq_ofNat_of_zero_le c.1
    rw [Int.toNat_natCast]
    have hw := ok.wt (k := k) (by omega)
    have hwd := ok.wd (k := k) (by omega)
    have hfr := ok.fr (k := k) (by omega)
    have hse := hfr.se
    have hh := ok.hull (k := k) (by omega)
    refine pb_Ex.ifT rfl (by omega) (by first | decide | (simp only [pb_cmp]; omega) | simp [pb_cmp]) ?_
    (try refine pb_Ex.run rfl ?_)
    refine pb_Ex.pV rfl rfl rfl rfl hW.1 rfl rfl (mo_state hW k (by omega)) (by omega) (by omega) (by omega) ?_
    (try refine pb_Ex.run rfl ?_)
    refine pb_Ex.icmp_eq rfl (by omega) (by omega) (fun c2 => ?_) (fun c2 => ?_)
    · rw [if_neg (show ¬ (F 0 (21 + 28 * k) ≠ 1) by omega)]
      refine pb_Ex.run rfl ?_
      have hW := hW.s12
      have hours : ∀ (m n : Nat) (p : Int × (Nat → Int)) (h2 : pb_H) (g : Nat → Int) (z2 z3 : Int) (l4 : Option pb_V), n + m = 501 → mo_W h2 o A (va_up x 9 0) (va_up F 12 g) → mo_Fr o A h h2 → z3 = n → z2 = p.1 → (0 ≤ p.1 ∧ p.1 ≤ ya_wt (F 0) k + 63 * n) → (∀ s : Nat, s < 8 → 0 ≤ p.2 s ∧ p.2 s ≤ 9) → (∀ s : Nat, s < ya_se (F 0) k → g s = p.2 s) →
          pb_Ex G mX4_hoursToSinking 5 0 0 (mo_Q12 o A h (some (pb_i (if ya_sk (F 0) k n m p = -1 then ((3 : Int), (-1 : Int)) else (0, ya_sk (F 0) k n m p)).2)) (va_up x 9 (if ya_sk (F 0) k n m p = -1 then ((3 : Int), (-1 : Int)) else (0, ya_sk (F 0) k n m p)).1) F) 0 0 79 [some (pb_r o), some (pb_i k), some (pb_i z2), some (pb_i z3), l4] [] h2 := by
        intro m
        induction m with
        | zero =>
          intro n p h1 g z2 z3 l4 hn hW hf h3 h2 hp hc hg
          subst h3 h2
          refine pb_Ex.run rfl ?_
          refine pb_Ex.icmpT rfl (by omega) (by omega) (by first | decide | (simp only [pb_cmp]; omega) | simp [pb_cmp]) ?_
          (try refine pb_Ex.run rfl ?_)
          unfold ya_sk
          refine pb_Ex.mc rfl rfl rfl rfl hW hf rfl rfl (mo_throwing hW 3) (by omega) (by omega) (by omega) (fun h1 hW hf => ?_)
          exact pb_Ex.iret rfl rfl (by omega) (by omega) ⟨g, rfl, hW.eqx (va_upup _ _ _ _), hf⟩
        | succ m ih =>
          intro n p h1 g z2 z3 l4 hn hW hf h3 h2 hp hc hg
          subst h3 h2
          refine pb_Ex.run rfl ?_
          refine pb_Ex.icmpF rfl (by omega) (by omega) (by first | decide | (simp only [pb_cmp]; omega) | simp [pb_cmp]) ?_
          (try refine pb_Ex.run rfl ?_)
          have inner : ∀ (m4 s : Nat) (h2 : pb_H) (g : Nat → Int) (z2 z4 : Int), s + m4 = ya_se (F 0) k → mo_W h2 o A (va_up x 9 0) (va_up F 12 g) → mo_Fr o A h h2 → z4 = s → z2 = (ya_hi (decide ((F 0 1 + n) % 6 = 0)) s p).1 → (∀ j : Nat, j < ya_se (F 0) k → g j = (ya_hi (decide ((F 0 1 + n) % 6 = 0)) s p).2 j) →
              pb_Ex G mX4_hoursToSinking 5 0 0 (mo_Q12 o A h (some (pb_i (if ya_sk (F 0) k n (m + 1) p = -1 then ((3 : Int), (-1 : Int)) else (0, ya_sk (F 0) k n (m + 1) p)).2)) (va_up x 9 (if ya_sk (F 0) k n (m + 1) p = -1 then ((3 : Int), (-1 : Int)) else (0, ya_sk (F 0) k n (m + 1) p)).1) F) 0 0 89 [some (pb_r o), some (pb_i k), some (pb_i z2), some (pb_i n), some (pb_i z4)] [] h2 := by
            intro m4
            induction m4 with
            | zero =>
              intro s h1 g z2 z4 hs hW hf h4 h2 hg
              have e : s = ya_se (F 0) k := by omega
              subst e h4
              have hr := ya_hi_rg (b := decide ((F 0 1 + n) % 6 = 0)) hp hc (ya_se (F 0) k) (by omega)
              rw [← h2] at hr
              refine pb_Ex.run rfl ?_
              refine pb_Ex.pV rfl rfl rfl rfl hW.1 rfl rfl (mo_seams12 hW k (by omega) hfr) (by omega) (by omega) (by omega) ?_
              (try refine pb_Ex.run rfl ?_)
              refine pb_Ex.icmpT rfl (by omega) (by omega) (by first | decide | (simp only [pb_cmp]; omega) | simp [pb_cmp]) ?_
              (try refine pb_Ex.run rfl ?_)
              have hdr := ya_dr_rg (ya_wd (F 0) k) z2
              refine pb_Ex.pV rfl rfl rfl rfl hW.1 rfl rfl (mo_draught12 hW k (by omega) hfr hwd z2 (by omega)) (by omega) (by omega) (by omega) ?_
              (try refine pb_Ex.run rfl ?_)
              refine pb_Ex.icmp_ne rfl (by omega) (by omega) (fun c3 => ?_) (fun c3 => ?_)
              · have e : ya_sk (F 0) k n (m + 1) p = ya_sk (F 0) k (n + 1) m (ya_hi (decide ((F 0 1 + n) % 6 = 0)) (ya_se (F 0) k) p) := by
                  rw [ya_sk, if_neg]
                  rw [← h2]; exact c3
                rw [e]
                refine pb_Ex.run rfl ?_
                exact ih (n + 1) _ _ g _ _ _ (by omega) hW hf (by omega) h2 (by rw [← h2]; push_cast; omega) hr.2 hg
              · have e : ya_sk (F 0) k n (m + 1) p = n := by
                  rw [ya_sk, if_pos]
                  rw [← h2]; exact c3
                rw [e, if_neg (by omega)]
                refine pb_Ex.run rfl ?_
                exact pb_Ex.iret rfl rfl (by omega) (by omega) ⟨g, rfl, hW, hf⟩
            | succ m4 ih4 =>
              intro s h1 g z2 z4 hs hW hf h4 h2 hg
              subst h4
              have hr := ya_hi_rg (b := decide ((F 0 1 + n) % 6 = 0)) hp hc s (by omega)
              have hrs := hr.2 s (by omega)
              have hgs := hg s (by omega)
              rw [← hgs] at hrs
              rw [← h2] at hr
              refine pb_Ex.run rfl ?_
              refine pb_Ex.pV rfl rfl rfl rfl hW.1 rfl rfl (mo_seams12 hW k (by omega) hfr) (by omega) (by omega) (by omega) ?_
              (try refine pb_Ex.run rfl ?_)
              refine pb_Ex.icmpF rfl (by omega) (by omega) (by first | decide | (simp only [pb_cmp]; omega) | simp [pb_cmp]) ?_
              (try refine pb_Ex.run rfl ?_)
              refine pb_Ex.getf rfl rfl hW.1 rfl ?_
              (try refine pb_Ex.run rfl ?_)
              refine pb_Ex.iat (s) rfl hW.m12 (by omega) (by omega) ?_
              (try refine pb_Ex.run rfl ?_)
              refine pb_Ex.getf rfl rfl hW.1 rfl ?_
              (try refine pb_Ex.run rfl ?_)
              refine pb_Ex.getf rfl rfl hW.1 rfl ?_
              (try refine pb_Ex.run rfl ?_)
              refine pb_Ex.iat (1) rfl hW.m12_0 (by omega) (by omega) ?_
              (try refine pb_Ex.run rfl ?_)
              refine pb_Ex.irem rfl (by omega) (by omega) ?_
              have upd : ∀ v : Int, v = (if decide ((F 0 1 + n) % 6 = 0) then max 0 (g s - 1) else g s) → ∀ j : Nat, j < ya_se (F 0) k → va_up g s v j = (ya_hi (decide ((F 0 1 + n) % 6 = 0)) (s + 1) p).2 j := by
                intro v hv j hj
                show _ = va_up (ya_hi (decide ((F 0 1 + n) % 6 = 0)) s p).2 s (if decide ((F 0 1 + n) % 6 = 0) then max 0 ((ya_hi (decide ((F 0 1 + n) % 6 = 0)) s p).2 s - 1) else (ya_hi (decide ((F 0 1 + n) % 6 = 0)) s p).2 s) j
                by_cases e : j = s
                · subst e
                  rw [va_upS, va_upS, hv, ← hgs]
                · rw [va_upN _ _ e, va_upN _ _ e]
                  exact hg j hj
              refine pb_Ex.if_ne rfl (by omega) (fun c3 => ?_) (fun c3 => ?_)
              · refine pb_Ex.run rfl ?_
                refine pb_Ex.getf rfl rfl hW.1 rfl ?_
                (try refine pb_Ex.run rfl ?_)
                refine pb_Ex.iat (s) rfl hW.m12 (by omega) (by omega) ?_
                (try refine pb_Ex.run rfl ?_)
                refine pb_Ex.ms12 s rfl hW hf rfl (by omega) (fun h1 hW hf => ?_)
                refine pb_Ex.run rfl ?_
                exact ih4 (s + 1) _ _ _ _ (by omega) hW hf (by omega) (by rw [h2, hgs]; rfl) (upd _ (by rw [decide_eq_false c3]; rfl))
              · refine pb_Ex.run rfl ?_
                refine pb_Ex.getf rfl rfl hW.1 rfl ?_
                (try refine pb_Ex.run rfl ?_)
                refine pb_Ex.iat (s) rfl hW.m12 (by omega) (by omega) ?_
                (try refine pb_Ex.run rfl ?_)
                refine pb_Ex.mmax rfl rfl (by omega) (by omega) rfl (by omega) (by omega) (by omega) ?_
                (try refine pb_Ex.run rfl ?_)
                refine pb_Ex.ms12 s rfl hW hf rfl (by omega) (fun h1 hW hf => ?_)
                refine pb_Ex.run rfl ?_
                exact ih4 (s + 1) _ _ _ _ (by omega) hW hf (by omega) (by rw [h2, hgs]; rfl) (upd _ (by rw [decide_eq_true c3]; rfl))
          exact inner (ya_se (F 0) k) 0 _ g _ 0 (by omega) hW hf rfl rfl hg
      have copy : ∀ (m s : Nat) (h2 : pb_H) (g : Nat → Int) (z2 : Int) (l3 l4 : Option pb_V), s + m = ya_se (F 0) k → mo_W h2 o A (va_up x 9 0) (va_up F 12 g) → mo_Fr o A h h2 → z2 = s → (∀ j : Nat, j < s → g j = F 0 (41 + 28 * k + j)) →
          pb_Ex G mX4_hoursToSinking 5 0 0 (mo_Q12 o A h (some (pb_i (if ya_sk (F 0) k 1 500 (ya_wt (F 0) k, fun s => F 0 (41 + 28 * k + s)) = -1 then ((3 : Int), (-1 : Int)) else (0, ya_sk (F 0) k 1 500 (ya_wt (F 0) k, fun s => F 0 (41 + 28 * k + s)))).2)) (va_up x 9 (if ya_sk (F 0) k 1 500 (ya_wt (F 0) k, fun s => F 0 (41 + 28 * k + s)) = -1 then ((3 : Int), (-1 : Int)) else (0, ya_sk (F 0) k 1 500 (ya_wt (F 0) k, fun s => F 0 (41 + 28 * k + s)))).1) F) 0 0 36 [some (pb_r o), some (pb_i k), some (pb_i z2), l3, l4] [] h2 := by
        intro m
        induction m with
        | zero =>
          intro s h1 g z2 l3 l4 hs hW hf h2 hg
          subst h2
          refine pb_Ex.run rfl ?_
          refine pb_Ex.pV rfl rfl rfl rfl hW.1 rfl rfl (mo_seams12 hW k (by omega) hfr) (by omega) (by omega) (by omega) ?_
          (try refine pb_Ex.run rfl ?_)
          refine pb_Ex.icmpT rfl (by omega) (by omega) (by first | decide | (simp only [pb_cmp]; omega) | simp [pb_cmp]) ?_
          (try refine pb_Ex.run rfl ?_)
          refine pb_Ex.pV rfl rfl rfl rfl hW.1 rfl rfl (mo_weight12 hW k (by omega) hfr) (by omega) (by omega) (by omega) ?_
          (try refine pb_Ex.run rfl ?_)
          exact hours 500 1 (ya_wt (F 0) k, fun s => F 0 (41 + 28 * k + s)) _ g _ _ _ (by omega) hW hf rfl rfl (by show 0 ≤ ya_wt (F 0) k ∧ ya_wt (F 0) k ≤ ya_wt (F 0) k + 63 * (1 : Nat); omega) (fun s hs => ok.cau (by omega) hs) (fun j hj => hg j (by omega))
        | succ m ih =>
          intro s h1 g z2 l3 l4 hs hW hf h2 hg
          subst h2
          refine pb_Ex.run rfl ?_
          refine pb_Ex.pV rfl rfl rfl rfl hW.1 rfl rfl (mo_seams12 hW k (by omega) hfr) (by omega) (by omega) (by omega) ?_
          (try refine pb_Ex.run rfl ?_)
          refine pb_Ex.icmpF rfl (by omega) (by omega) (by first | decide | (simp only [pb_cmp]; omega) | simp [pb_cmp]) ?_
          (try refine pb_Ex.run rfl ?_)
          refine pb_Ex.getf rfl rfl hW.1 rfl ?_
          (try refine pb_Ex.run rfl ?_)
          refine pb_Ex.getf rfl rfl hW.1 rfl ?_
          (try refine pb_Ex.run rfl ?_)
          refine pb_Ex.pS rfl rfl rfl rfl (mo_hullAt (k : Int)) (by omega) (by omega) (by omega) ?_
          (try refine pb_Ex.run rfl ?_)
          refine pb_Ex.iat (41 + 28 * k + s) rfl hW.m12_0 (by omega) (by omega) ?_
          (try refine pb_Ex.run rfl ?_)
          refine pb_Ex.ms12 s rfl hW hf rfl (by omega) (fun h1 hW hf => ?_)
          refine pb_Ex.run rfl ?_
          refine ih (s + 1) _ _ _ _ _ (by omega) hW hf (by omega) (fun j hj => ?_)
          by_cases e : j = s
          · subst e; rw [va_upS]
          · rw [va_upN _ _ e]; exact hg j (by omega)
      exact copy (ya_se (F 0) k) 0 _ _ 0 _ _ (by omega) hW hf rfl (fun j hj => by omega)
    · rw [if_pos c2]
      refine pb_Ex.run rfl ?_
      have hW := hW.s12
      refine pb_Ex.mc rfl rfl rfl rfl hW hf rfl rfl (mo_throwing hW 2) (by omega) (by omega) (by omega) (fun h1 hW hf => ?_)
      exact pb_Ex.iret rfl rfl (by omega) (by omega) ⟨_, rfl, hW.eqx (va_upup _ _ _ _), hf⟩
  · rw [if_neg c, if_pos (show ¬ (0 ≤ z ∧ z < F 0 0) by omega)]
    refine pb_Ex.ifF rfl (by omega) (by first | decide | (simp only [pb_cmp]; omega) | simp [pb_cmp]) ?_
    (try refine pb_Ex.run rfl ?_)
    have hW := hW.s12
    refine pb_Ex.mc rfl rfl rfl rfl hW hf rfl rfl (mo_throwing hW 1) (by omega) (by omega) (by omega) (fun h1 hW hf => ?_)
    exact pb_Ex.iret rfl rfl (by omega) (by omega) ⟨_, rfl, hW.eqx (va_upup _ _ _ _), hf⟩
end MODEL11
