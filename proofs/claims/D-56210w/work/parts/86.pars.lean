set_option maxRecDepth 100000
/-! THE PARSER -/
def cq_pk (g : Nat → Int) (N p : Nat) : Int := if p < N then g p else 10
/-- the letters t (n of them, from i on) are expected at p -/
def cq_exF (g : Nat → Int) (N : Nat) (t : Nat → Int) : Nat → Nat → Nat → Nat × Bool
  | 0, _, p => (p, true)
  | d + 1, i, p => if cq_pk g N p = t i then cq_exF g N t d (i + 1) (p + 1) else (p, false)
def cq_ex (g : Nat → Int) (N i p : Nat) : Nat × Bool := cq_exF g N (co_ch i) (co_ln i) 0 p
def cq_nbF (g : Nat → Int) (N : Nat) : Nat → Int → Nat → Int × Nat
  | 0, v, p => (v, p)
  | d + 1, v, p => if 48 ≤ cq_pk g N p ∧ cq_pk g N p ≤ 57 then cq_nbF g N d (10 * v + cq_pk g N p - 48) (p + 1) else (v, p)
/-- a number behind the letters i: its value, where, whether it's well -/
def cq_nb (g : Nat → Int) (N i m p : Nat) : Int × Nat × Bool :=
  if (cq_ex g N i p).2 = true ∧ 48 ≤ cq_pk g N (cq_ex g N i p).1 ∧ cq_pk g N (cq_ex g N i p).1 ≤ 57 then ((cq_nbF g N m 0 (cq_ex g N i p).1).1, (cq_nbF g N m 0 (cq_ex g N i p).1).2, true)
  else (0, (cq_ex g N i p).1, false)
def ps_W (h : pb_H) (o a v N : Nat) (g : Nat → Int) (p : Nat) : Prop := h.2 o = some (pb_ob 10 [pb_r a, pb_i p]) ∧ st_W h a v N g ∧ N ≤ 60 ∧ p ≤ N
/-- a SyntaxError at place p -/
def ps_X (h : pb_H) (o : Nat) (p : Nat) (oc : pb_O) (h' : pb_H) : Prop := ∃ q r1 r2, oc = .inr (xSY, q) ∧ h'.2 q = some (pb_ob 11 [pb_r q, pb_q r1, pb_q r2, pb_0, pb_0, pb_i 0, pb_i p]) ∧ fr_P (fun b _ => b ≠ o) h h'
def ps_Q (o a : Nat) (h : pb_H) (v : Option pb_V) (p : Nat) (w : Bool) : pb_O → pb_H → Prop := fun oc h' => (w = true ∧ oc = .inl v ∧ h'.1 = h.1 ∧ h'.2 o = some (pb_ob 10 [pb_r a, pb_i p]) ∧ ∀ b, b ≠ o → h'.2 b = h.2 b) ∨ (w = false ∧ ps_X h o p oc h')
section PARS
variable {G : pb_G} {K : co_K} {h : pb_H} {o a v N p k : Nat} {g : Nat → Int}
theorem st_W.ne {b : Nat} {fs : List pb_V} {s : Nat → Int} (hS : st_W h a v N s) (hb : h.2 b = some (pb_ob 10 fs)) : a ≠ b ∧ v ≠ b := by
  obtain ⟨k1, k2, q, k3, k4⟩ := hS
  refine ⟨fun e => ?_, fun e => ?_⟩
  · rw [e, hb] at k1; cases k1
  · rw [e, hb] at k3; cases k3
theorem ps_W.mv {h' : pb_H} {p' : Nat} (hP : ps_W h o a v N g p) (h1 : h'.2 o = some (pb_ob 10 [pb_r a, pb_i p'])) (h2 : ∀ b, b ≠ o → h'.2 b = h.2 b) (h3 : p' ≤ N) : ps_W h' o a v N g p' := by
  obtain ⟨k1, ⟨m1, m2, q, m3, m4⟩, k3, k4⟩ := hP
  obtain ⟨n1, n2⟩ := st_W.ne ⟨m1, m2, q, m3, m4⟩ k1
  exact ⟨h1, ⟨by rw [h2 _ n1]; exact m1, m2, q, by rw [h2 _ n2]; exact m3, m4⟩, k3, h3⟩
theorem ps_peek (hG : co_G G K) (hP : ps_W h o a v N g p) : pb_Ctr G mX12_peek 4 0 0 [pb_r o] h (pb_P (some (pb_i (cq_pk g N p))) h) := by
  obtain ⟨k1, k2, k3, k4⟩ := hP
  have cg : ∀ j, j < N → 0 ≤ g j ∧ g j < 128 := fun j hj => by obtain ⟨-, -, q, -, m4⟩ := k2; exact ⟨(m4 j hj).2.1, (m4 j hj).2.2⟩
  unfold cq_pk
  refine pb_Ctr.of rfl rfl rfl tX12_peek_ok rfl ?_
  (try refine pb_Ex.run rfl ?_)
  refine pb_Ex.fin (fun hf => ?_)
  refine pb_Ex.getf rfl rfl k1 rfl ?_
  (try refine pb_Ex.run rfl ?_)
  refine pb_Ex.getf rfl rfl k1 rfl ?_
  (try refine pb_Ex.run rfl ?_)
  refine pb_Ex.pV rfl rfl rfl rfl (k2.1) rfl rfl (jt_length hG k2) (by omega) (by omega) (by omega) ?_
  (try refine pb_Ex.run rfl ?_)
  by_cases c : p < N
  · have := cg p c
    rw [if_pos c]
    refine pb_Ex.icmpF rfl (by omega) (by omega) (by first | decide | (simp only [pb_cmp]; omega) | simp [pb_cmp]) ?_
    (try refine pb_Ex.run rfl ?_)
    refine pb_Ex.getf rfl rfl k1 rfl ?_
    (try refine pb_Ex.run rfl ?_)
    refine pb_Ex.getf rfl rfl k1 rfl ?_
    (try refine pb_Ex.run rfl ?_)
    refine pb_Ex.pV rfl rfl rfl rfl (k2.1) rfl rfl (jt_charAt hG k2 p c) (by omega) (by omega) (by omega) ?_
    (try refine pb_Ex.run rfl ?_)
    refine pb_Ex.zret (ty := .char) rfl rfl (pb_nch (by omega)).1 (by omega) (by omega) ⟨rfl, rfl⟩
  · rw [if_neg c]
    refine pb_Ex.icmpT rfl (by omega) (by omega) (by first | decide | (simp only [pb_cmp]; omega) | simp [pb_cmp]) ?_
    (try refine pb_Ex.run rfl ?_)
    refine pb_Ex.zret (ty := .char) rfl rfl (pb_nch (by omega)).1 (by omega) (by omega) ⟨rfl, rfl⟩
theorem cq_lt (h : cq_pk g N p ≠ 10) : p < N := by
  unfold cq_pk at h
  by_cases c : p < N
  · exact c
  · rw [if_neg c] at h; exact absurd rfl h
theorem cq_rg (hP : ps_W h o a v N g p) : 0 ≤ cq_pk g N p ∧ cq_pk g N p < 128 := by
  obtain ⟨-, ⟨-, -, q, -, m4⟩, -⟩ := hP
  unfold cq_pk
  by_cases c : p < N
  · rw [if_pos c]; exact ⟨(m4 p c).2.1, (m4 p c).2.2⟩
  · rw [if_neg c]; omega
theorem co_nl : ∀ i, i < 18 → ∀ j, j < co_ln i → co_ch i j ≠ 10 ∧ 0 ≤ co_ch i j ∧ co_ch i j < 128 := by
  have : ∀ i : Fin 18, ∀ j : Fin 8, j.val < co_ln i.val → co_ch i.val j.val ≠ 10 ∧ 0 ≤ co_ch i.val j.val ∧ co_ch i.val j.val < 128 := by decide
  have l8 : ∀ i : Fin 18, co_ln i.val ≤ 8 := by decide
  intro i hi j hj
  exact this ⟨i, hi⟩ ⟨j, by have := l8 ⟨i, hi⟩; simp only at this; omega⟩ hj
theorem cq_exF_le : ∀ (d j p : Nat), p ≤ N → (∀ i, i < j + d → co_ch k i ≠ 10) → (cq_exF g N (co_ch k) d j p).1 ≤ N
  | 0, _, _, h, _ => h
  | d + 1, j, p, h, ht => by
    unfold cq_exF
    split
    · next c => exact cq_exF_le d (j + 1) (p + 1) (cq_lt (by rw [c]; exact ht j (by omega))) (fun i hi => ht i (by omega))
    · exact h
theorem cq_ex_le {i : Nat} (hi : i < 18) (hp : p ≤ N) : (cq_ex g N i p).1 ≤ N := cq_exF_le _ _ _ hp (fun j hj => (co_nl i hi j (by omega)).1)
theorem ps_expect (hG : co_G G K) (hK : co_W K h) (hP : ps_W h o a v N g p) (i : Nat) (hi : i < 18) : pb_Ctr G mX12_expect 7 1 7 [pb_r o, pb_r (co_sa K i)] h (ps_Q o a h none (cq_ex g N i p).1 (cq_ex g N i p).2) := by
  have ch := co_nl i hi
  have hS := co_st_W hK i hi
  obtain ⟨ns1, ns2⟩ := hS.ne hP.1
  have l8 : co_ln i ≤ 8 := by
    have : ∀ i : Fin 18, co_ln i.val ≤ 8 := by decide
    exact this ⟨i, hi⟩
  unfold cq_ex
  refine pb_Ctr.of rfl rfl rfl tX12_expect_ok rfl ?_
  (try refine pb_Ex.run rfl ?_)
  refine pb_Ex.fin (fun hf => ?_)
  have hol := hf _ _ hP.1
  have loop : ∀ (d j : Nat) (z : Int) (p' : Nat) (h2 : pb_H), j + d = co_ln i → z = j → ps_W h2 o a v N g p' → h2.1 = h.1 → (∀ b, b ≠ o → h2.2 b = h.2 b) → pb_Ex G mX12_expect 7 1 7 (ps_Q o a h none (cq_exF g N (co_ch i) d j p').1 (cq_exF g N (co_ch i) d j p').2) 0 0 2 [some (pb_r o), some (pb_r (co_sa K i)), some (pb_i z)] [] h2 := by
    intro d
    induction d with
    | zero =>
      intro j z p' h2 hj hz p1 p2 p3
      have S2 : st_W h2 (co_sa K i) (co_sv K i) (co_ln i) (co_ch i) := by
        obtain ⟨m1, m2, q, m3, m4⟩ := hS
        exact ⟨by rw [p3 _ ns1]; exact m1, m2, q, by rw [p3 _ ns2]; exact m3, m4⟩
      refine pb_Ex.run rfl ?_
      refine pb_Ex.pV rfl rfl rfl rfl (S2.1) rfl rfl (jt_length hG S2) (by omega) (by omega) (by omega) ?_
      (try refine pb_Ex.run rfl ?_)
      refine pb_Ex.icmpT rfl (by omega) (by omega) (by first | decide | (simp only [pb_cmp]; omega) | simp [pb_cmp]) ?_
      (try refine pb_Ex.run rfl ?_)
      refine pb_Ex.vret rfl rfl (by omega) (by omega) (Or.inl ⟨rfl, rfl, p2, p1.1, p3⟩)
    | succ d ih =>
      intro j z p' h2 hj hz p1 p2 p3
      subst hz
      have S2 : st_W h2 (co_sa K i) (co_sv K i) (co_ln i) (co_ch i) := by
        obtain ⟨m1, m2, q, m3, m4⟩ := hS
        exact ⟨by rw [p3 _ ns1]; exact m1, m2, q, by rw [p3 _ ns2]; exact m3, m4⟩
      have cj := ch j (by omega)
      have rg := cq_rg p1
      have pN := p1.2.2.2
      have N60 := p1.2.2.1
      refine pb_Ex.run rfl ?_
      refine pb_Ex.pV rfl rfl rfl rfl (S2.1) rfl rfl (jt_length hG S2) (by omega) (by omega) (by omega) ?_
      (try refine pb_Ex.run rfl ?_)
      refine pb_Ex.icmpF rfl (by omega) (by omega) (by first | decide | (simp only [pb_cmp]; omega) | simp [pb_cmp]) ?_
      (try refine pb_Ex.run rfl ?_)
      refine pb_Ex.pV rfl rfl rfl rfl (p1.1) rfl rfl (ps_peek hG p1) (by omega) (by omega) (by omega) ?_
      (try refine pb_Ex.run rfl ?_)
      refine pb_Ex.pV rfl rfl rfl rfl (S2.1) rfl rfl (jt_charAt hG S2 j (by omega)) (by omega) (by omega) (by omega) ?_
      (try refine pb_Ex.run rfl ?_)
      have eE : cq_exF g N (co_ch i) (d + 1) j p' = if cq_pk g N p' = co_ch i j then cq_exF g N (co_ch i) d (j + 1) (p' + 1) else (p', false) := rfl
      rw [eE]
      refine pb_Ex.icmp_eq rfl (by omega) (by omega) (fun c => ?_) (fun c => ?_)
      · rw [if_pos c]
        have lt := cq_lt (g := g) (N := N) (p := p') (by rw [c]; exact cj.1)
        refine pb_Ex.run rfl ?_
        refine pb_Ex.getf rfl rfl p1.1 rfl ?_
        (try refine pb_Ex.run rfl ?_)
        refine pb_Ex.putf rfl rfl (p1.1) rfl rfl (by first | trivial | exact Or.inl rfl | exact Or.inr rfl | (show _ ∨ _; omega) | (show _ ∧ _; omega)) ?_
        (try refine pb_Ex.run rfl ?_)
        refine ih (j + 1) _ (p' + 1) _ (by omega) (by omega) (p1.mv pb_set_same (fun b hb => pb_set_ne hb) (by omega)) p2 (fun b hb => by rw [pb_set_ne hb]; exact p3 b hb)
      · rw [if_neg c]
        refine pb_Ex.new 11 7 RX13 TX13 [pb_0, pb_0, pb_0, pb_0, pb_0, pb_i 0, pb_i 0] rfl rfl rfl rfl (fun j hj => by
          have hj : j < 7 := hj
          match j, hj with
          | 0, _ => rfl
          | 1, _ => rfl
          | 2, _ => rfl
          | 3, _ => rfl
          | 4, _ => rfl
          | 5, _ => rfl
          | 6, _ => rfl) (by omega) (by omega) ?_
        refine pb_Ex.run rfl ?_
        have nb : (pb_new h2 (pb_ob 11 [pb_0, pb_0, pb_0, pb_0, pb_0, pb_i 0, pb_i 0])).2 o = some (pb_ob 10 [pb_r a, pb_i p']) := by rw [pb_new_ne (by omega)]; exact p1.1
        refine pb_Ex.getf rfl rfl nb rfl ?_
        (try refine pb_Ex.run rfl ?_)
        refine pb_Ex.cIo rfl rfl rfl rfl (sy_init hG p' pb_new_same) (by omega) (by omega) (by omega) (fun h3 e3 => ?_)
        obtain ⟨s3, ⟨r1, r2, b3⟩, x3⟩ := e3
        have s3 : h3.1 = h2.1 + 1 := s3
        refine pb_Ex.athrow rfl (pb_obj_thr b3 rfl) (pb_Xx.out rfl (by omega) (by omega) (Or.inr ⟨rfl, _, r1, r2, rfl, b3, ⟨by omega, fun b c hb hl => ?_⟩⟩))
        have := hf b c hb
        rw [x3 b (by show b ≠ h2.1; omega), pb_new_ne (by omega), p3 b hl]
        exact hb
  exact loop _ 0 0 p h (by omega) rfl hP rfl (fun _ _ => rfl)
theorem ps_number (hG : co_G G K) (hK : co_W K h) (hP : ps_W h o a v N g p) (i : Nat) (hi : i < 18) (m : Nat) (hm : m ≤ 3) : pb_Ctr G mX12_number 8 2 14 [pb_r o, pb_r (co_sa K i), pb_i m] h (ps_Q o a h (some (pb_i (cq_nb g N i m p).1)) (cq_nb g N i m p).2.1 (cq_nb g N i m p).2.2) := by
  unfold cq_nb
  have hle := cq_ex_le (g := g) hi hP.2.2.2
  refine pb_Ctr.of rfl rfl rfl tX12_number_ok rfl ?_
  (try refine pb_Ex.run rfl ?_)
  refine pb_Ex.fin (fun hf => ?_)
  have hol := hf _ _ hP.1
  refine pb_Ex.cV rfl rfl rfl rfl hP.1 rfl rfl (ps_expect hG hK hP i hi) ⟨by omega, by omega, by omega⟩ (fun vv h1 hq => ?_) (fun E q h1 hq => ?_)
  · rcases hq with ⟨w1, w2, w3, w4, w5⟩ | ⟨w1, q, r1, r2, e, -⟩
    · cases w2
      generalize cq_ex g N i p = r at *
      obtain ⟨p1, w⟩ := r
      dsimp only at w1 w4 hle
      subst w1
      have P1 : ps_W h1 o a v N g p1 := hP.mv w4 w5 hle
      have rg := cq_rg P1
      have N60 := hP.2.2.1
      (try refine pb_Ex.run rfl ?_)
      refine pb_Ex.pV rfl rfl rfl rfl (P1.1) rfl rfl (ps_peek hG P1) (by omega) (by omega) (by omega) ?_
      (try refine pb_Ex.run rfl ?_)
      refine pb_Ex.pS rfl rfl rfl rfl (ck_bt (cq_pk g N p1) 48 57 (by omega) (by omega) (by omega)) (by omega) (by omega) (by omega) ?_
      (try refine pb_Ex.run rfl ?_)
      by_cases c : 48 ≤ cq_pk g N p1 ∧ cq_pk g N p1 ≤ 57
      · rw [if_pos c, if_pos (show (p1, true).2 = true ∧ 48 ≤ cq_pk g N (p1, true).1 ∧ cq_pk g N (p1, true).1 ≤ 57 from ⟨rfl, c⟩)]
        refine pb_Ex.ifT rfl (by omega) (by first | decide | (simp only [pb_cmp]; omega) | simp [pb_cmp]) ?_
        (try refine pb_Ex.run rfl ?_)
        have loop : ∀ (d j : Nat) (z w : Int) (p' : Nat) (h2 : pb_H), j + d = m → z = j → ps_W h2 o a v N g p' → h2.1 = h.1 → (∀ b, b ≠ o → h2.2 b = h.2 b) → pb_Ex G mX12_number 8 2 14 (ps_Q o a h (some (pb_i (cq_nbF g N d w p').1)) (cq_nbF g N d w p').2 true) (0 + 1) (0 + 7) 36 [some (pb_r o), some (pb_r (co_sa K i)), some (pb_i m), some (pb_i w), some (pb_i z)] [] h2 := by
          intro d
          induction d with
          | zero =>
            intro j z w p' h2 hj hz q1 q2 q3
            refine pb_Ex.run rfl ?_
            refine pb_Ex.icmpT rfl (by omega) (by omega) (by first | decide | (simp only [pb_cmp]; omega) | simp [pb_cmp]) ?_
            (try refine pb_Ex.run rfl ?_)
            refine pb_Ex.iret rfl rfl (by omega) (by omega) (Or.inl ⟨rfl, rfl, q2, q1.1, q3⟩)
          | succ d ih =>
            intro j z w p' h2 hj hz q1 q2 q3
            subst hz
            have rg := cq_rg q1
            have pN := q1.2.2.2
            have eE : cq_nbF g N (d + 1) w p' = if 48 ≤ cq_pk g N p' ∧ cq_pk g N p' ≤ 57 then cq_nbF g N d (10 * w + cq_pk g N p' - 48) (p' + 1) else (w, p') := rfl
            rw [eE]
            refine pb_Ex.run rfl ?_
            refine pb_Ex.icmpF rfl (by omega) (by omega) (by first | decide | (simp only [pb_cmp]; omega) | simp [pb_cmp]) ?_
            (try refine pb_Ex.run rfl ?_)
            refine pb_Ex.pV rfl rfl rfl rfl (q1.1) rfl rfl (ps_peek hG q1) (by omega) (by omega) (by omega) ?_
            (try refine pb_Ex.run rfl ?_)
            refine pb_Ex.pS rfl rfl rfl rfl (ck_bt (cq_pk g N p') 48 57 (by omega) (by omega) (by omega)) (by omega) (by omega) (by omega) ?_
            (try refine pb_Ex.run rfl ?_)
            by_cases c : 48 ≤ cq_pk g N p' ∧ cq_pk g N p' ≤ 57
            · rw [if_pos c, if_pos c]
              have lt := cq_lt (g := g) (N := N) (p := p') (by omega)
              refine pb_Ex.ifF rfl (by omega) (by first | decide | (simp only [pb_cmp]; omega) | simp [pb_cmp]) ?_
              (try refine pb_Ex.run rfl ?_)
              refine pb_Ex.pV rfl rfl rfl rfl (q1.1) rfl rfl (ps_peek hG q1) (by omega) (by omega) (by omega) ?_
              (try refine pb_Ex.run rfl ?_)
              refine pb_Ex.getf rfl rfl q1.1 rfl ?_
              (try refine pb_Ex.run rfl ?_)
              refine pb_Ex.putf rfl rfl (q1.1) rfl rfl (by first | trivial | exact Or.inl rfl | exact Or.inr rfl | (show _ ∨ _; omega) | (show _ ∧ _; omega)) ?_
              (try refine pb_Ex.run rfl ?_)
              exact ih (j + 1) _ _ (p' + 1) _ (by omega) (by omega) (q1.mv pb_set_same (fun b hb => pb_set_ne hb) (by omega)) q2 (fun b hb => by rw [pb_set_ne hb]; exact q3 b hb)
            · rw [if_neg c, if_neg c]
              refine pb_Ex.ifT rfl (by omega) (by first | decide | (simp only [pb_cmp]; omega) | simp [pb_cmp]) ?_
              (try refine pb_Ex.run rfl ?_)
              refine pb_Ex.iret rfl rfl (by omega) (by omega) (Or.inl ⟨rfl, rfl, q2, q1.1, q3⟩)
        exact loop m 0 0 0 p1 h1 (by omega) rfl P1 w3 w5
      · rw [if_neg c, if_neg (fun z => c z.2)]
        refine pb_Ex.ifF rfl (by omega) (by first | decide | (simp only [pb_cmp]; omega) | simp [pb_cmp]) ?_
        refine pb_Ex.new 11 7 RX13 TX13 [pb_0, pb_0, pb_0, pb_0, pb_0, pb_i 0, pb_i 0] rfl rfl rfl rfl (fun j hj => by
          have hj : j < 7 := hj
          match j, hj with
          | 0, _ => rfl
          | 1, _ => rfl
          | 2, _ => rfl
          | 3, _ => rfl
          | 4, _ => rfl
          | 5, _ => rfl
          | 6, _ => rfl) (by omega) (by omega) ?_
        refine pb_Ex.run rfl ?_
        have nb : (pb_new h1 (pb_ob 11 [pb_0, pb_0, pb_0, pb_0, pb_0, pb_i 0, pb_i 0])).2 o = some (pb_ob 10 [pb_r a, pb_i p1]) := by rw [pb_new_ne (by omega)]; exact w4
        refine pb_Ex.getf rfl rfl nb rfl ?_
        (try refine pb_Ex.run rfl ?_)
        refine pb_Ex.cIo rfl rfl rfl rfl (sy_init hG p1 pb_new_same) (by omega) (by omega) (by omega) (fun h3 e3 => ?_)
        obtain ⟨s3, ⟨r1, r2, b3⟩, x3⟩ := e3
        have s3 : h3.1 = h1.1 + 1 := s3
        refine pb_Ex.athrow rfl (pb_obj_thr b3 rfl) (pb_Xx.out rfl (by omega) (by omega) (Or.inr ⟨rfl, _, r1, r2, rfl, b3, ⟨by omega, fun b c hb hl => ?_⟩⟩))
        have := hf b c hb
        rw [x3 b (by show b ≠ h1.1; omega), pb_new_ne (by omega), w5 b hl]
        exact hb
    · cases e
  · refine pb_Xx.out rfl (by omega) (by omega) ?_
    rcases hq with ⟨w1, w2, -⟩ | ⟨w1, w2⟩
    · cases w2
    · rw [if_neg (fun z => by rw [w1] at z; cases z.1)]
      exact Or.inr ⟨rfl, w2⟩
end PARS
