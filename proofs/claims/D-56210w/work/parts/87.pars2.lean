set_option maxRecDepth 100000
section PARS2
/-- while a command's operation is made at q, its arguments at q + 1 -/
def cs_I (G : pb_G) (K : co_K) (h h' : pb_H) (o a v N : Nat) (g : Nat → Int) (q n : Nat) (as : Nat → Int) (p : Nat) : Prop := ps_W h' o a v N g p ∧ h'.2 q = some (pb_ob 4 [pb_i 0, pb_i 0, pb_i 0, pb_i 0]) ∧ h'.2 (q + 1) = some (pb_aI 0 n as) ∧ (h.1 ≤ q ∧ q + 2 ≤ h'.1 ∧ q ≠ o ∧ q + 1 ≠ o) ∧ fr_P (fun b _ => b ≠ o) h h' ∧ co_W K h' ∧ fr_fin h ∧ pb_b G ≤ o ∧ pb_b G ≤ h.1
variable {G : pb_G} {K : co_K} {M : pb_M} {n C S : Nat} {Q : pb_O → pb_H → Prop} {k u pc : Nat} {L : List (Option pb_V)} {rest : List pb_V} {h h1 : pb_H} {o a v N p q nn : Nat} {g as : Nat → Int}
theorem ps_X.tr {h0 h1 : pb_H} {o p : Nat} {oc : pb_O} {h' : pb_H} (hx : fr_P (fun b _ => b ≠ o) h0 h1) (hq : ps_X h1 o p oc h') : ps_X h0 o p oc h' := by
  obtain ⟨q, r1, r2, e1, e2, e3⟩ := hq
  exact ⟨q, r1, r2, e1, e2, hx.tr e3⟩
theorem cq_nb_le {i m : Nat} (hi : i < 18) (hp : p ≤ N) : (cq_nb g N i m p).2.1 ≤ N := by
  have h1 := cq_ex_le (g := g) hi hp
  have key : ∀ (d : Nat) (w : Int) (p : Nat), p ≤ N → (cq_nbF g N d w p).2 ≤ N := by
    intro d
    induction d with
    | zero => exact fun _ _ h => h
    | succ d ih =>
      intro w p hp
      unfold cq_nbF
      split
      · next c => exact ih _ _ (cq_lt (g := g) (by omega))
      · exact hp
  unfold cq_nb
  split
  · exact key _ _ _ h1
  · exact h1
theorem pb_Ex.csN {nx tg idx nx2 tg2 i m j : Nat} (hI : cs_I G K h h1 o a v N g q nn as p) (hG : co_G G K) (hi18 : i < 18) (hm : m ≤ 3) (hj : j < nn) (hi : pb_ig (pb_tb M) pc = some (.invokevirtual idx, nx, tg)) (hl : pb_lk3 (pb_lt M.1) idx = some (1, mX12_number, 2)) (hi2 : pb_ig (pb_tb M) nx = some (.iastore, nx2, tg2)) (hsm : pb_sm (pb_i j :: pb_r (q + 1) :: rest) = true) (hM : M.2.2.2.2.2.1 = none) (hn : 8 < n) (hC : k + 2 ≤ C) (hS : u + 14 ≤ S) (hnn : nn ≤ 3)
    (kk : (cq_nb g N i m p).2.2 = true → ∀ h', cs_I G K h h' o a v N g q nn (va_up as j (cq_nb g N i m p).1) (cq_nb g N i m p).2.1 → h'.1 = h1.1 → pb_Ex G M n C S Q (k + 2) (u + 14) nx2 L rest h')
    (kx : (cq_nb g N i m p).2.2 = false → ∀ E q' h', ps_X h o (cq_nb g N i m p).2.1 (.inr (E, q')) h' → Q (.inr (E, q')) h') : pb_Ex G M n C S Q k u pc L (pb_i m :: pb_r (co_sa K i) :: pb_r o :: pb_i j :: pb_r (q + 1) :: rest) h1 := by
  obtain ⟨hP, hq, ha, ⟨l1, l2, l3, l4⟩, hx, hK, hf, hoG⟩ := hI
  refine pb_Ex.cV hi hl rfl hsm hP.1 rfl rfl (ps_number hG hK hP i hi18 m hm) ⟨hn, hC, hS⟩ (fun vv h2 hq2 => ?_) (fun E q' h2 hq2 => pb_Xx.out hM hC hS ?_)
  · rcases hq2 with ⟨w1, w2, w3, w4, w5⟩ | ⟨w1, q', r1, r2, e, -⟩
    · cases w2
      have P2 : ps_W h2 o a v N g (cq_nb g N i m p).2.1 := hP.mv w4 w5 (cq_nb_le hi18 hP.2.2.2)
      have ha2 : h2.2 (q + 1) = some (pb_aI 0 nn as) := by rw [w5 _ l4]; exact ha
      refine pb_Ex.istat j hi2 ha2 rfl hj ?_
      have ne2 := P2.2.1
      have fo : h2.2 o = some (pb_ob 10 [pb_r a, pb_i (cq_nb g N i m p).2.1]) := w4
      have na : a ≠ q + 1 := fun e => by have := ne2.1; rw [e, ha2] at this; cases this
      have nv : v ≠ q + 1 ∨ True := Or.inr trivial
      have x2 : fr_P (fun b _ => b ≠ o) h1 h2 := ⟨by omega, fun b c hb hl => by rw [w5 b hl]; exact hb⟩
      refine kk w1 _ ⟨⟨by rw [pb_set_ne (Ne.symm l4)]; exact fo, ?_, hP.2.2.1, P2.2.2.2⟩, by rw [pb_set_ne (by omega), w5 _ l3]; exact hq, pb_set_same, ⟨l1, by show q + 2 ≤ h2.1; omega, l3, l4⟩, (hx.tr x2).st _ (fun c hc => absurd (hf _ _ hc) (by omega)), ?_, hf, hoG⟩ w3
      · have hS : st_W h2 a v N g := ne2
        obtain ⟨m1, m2, q9, m3, m4⟩ := hS
        have nv : v ≠ q + 1 := fun e => by rw [e, ha2] at m3; cases m3
        exact ⟨by rw [pb_set_ne na]; exact m1, m2, q9, by rw [pb_set_ne nv]; exact m3, m4⟩
      · have hK2 : co_W K h2 := hK.lo hG x2 (fun b c hb _ => by show b ≠ o; have := hoG.1; omega)
        have : fr_P (fun b c => b < pb_b G) h2 (pb_set h2 (q + 1) (pb_aI 0 nn (va_up as j (cq_nb g N i m p).1))) := fr_P.rf.st _ (fun c hc hl => by
          have hl : q + 1 < pb_b G := hl
          have := hoG.2
          omega)
        exact hK2.lo hG this (fun b c hb _ => hb)
    · cases e
  · rcases hq2 with ⟨w1, w2, -⟩ | ⟨w1, w2⟩
    · cases w2
    · exact kx w1 E q' h2 (w2.tr hx)
end PARS2
