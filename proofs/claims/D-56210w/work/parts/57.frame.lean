set_option maxRecDepth 100000
/-! WHAT STAYS: cells of which P is said are as they were -/
def fr_P (P : Nat → pb_C → Prop) (h h' : pb_H) : Prop := h.1 ≤ h'.1 ∧ ∀ (b : Nat) (c : pb_C), h.2 b = some c → P b c → h'.2 b = some c
/-- all stays (new cells may have come) -/
def fr_x (h h' : pb_H) : Prop := fr_P (fun _ _ => True) h h'
def fr_fin (h : pb_H) : Prop := ∀ (b : Nat) (c : pb_C), h.2 b = some c → b < h.1
theorem fr_P.rf {P : Nat → pb_C → Prop} {h : pb_H} : fr_P P h h := ⟨Nat.le_refl _, fun _ _ q _ => q⟩
theorem fr_P.tr {P : Nat → pb_C → Prop} {h h' h'' : pb_H} (a : fr_P P h h') (b : fr_P P h' h'') : fr_P P h h'' := ⟨Nat.le_trans a.1 b.1, fun q c h1 h2 => b.2 q c (a.2 q c h1 h2) h2⟩
theorem fr_P.mono {P P' : Nat → pb_C → Prop} {h h' : pb_H} (a : fr_P P h h') (m : ∀ b c, h.2 b = some c → P' b c → P b c) : fr_P P' h h' := ⟨a.1, fun q c h1 h2 => a.2 q c h1 (m q c h1 h2)⟩
theorem fr_P.nw {P : Nat → pb_C → Prop} {h h' : pb_H} (a : fr_P P h h') (hf : fr_fin h) (x : pb_C) : fr_P P h (pb_new h' x) := ⟨Nat.le_succ_of_le a.1, fun q c h1 h2 => by
  have h3 := hf q c h1
  have h4 := a.1
  rw [pb_new_ne (by omega)]
  exact a.2 q c h1 h2⟩
theorem fr_P.st {P : Nat → pb_C → Prop} {h h' : pb_H} (a : fr_P P h h') {b : Nat} (x : pb_C) (hb : ∀ c, h.2 b = some c → ¬ P b c) : fr_P P h (pb_set h' b x) := ⟨a.1, fun q c h1 h2 => by
  rw [pb_set_ne (fun e => by subst e; exact hb c h1 h2)]
  exact a.2 q c h1 h2⟩
theorem fr_P.ho {P : Nat → pb_C → Prop} {h h' : pb_H} (a : fr_P P h h') {sz : Nat} (hs : h'.1 ≤ sz) : fr_P P h (sz, h'.2) := ⟨Nat.le_trans a.1 hs, a.2⟩
theorem fr_x.rf {h : pb_H} : fr_x h h := fr_P.rf
theorem fr_x.tr {h h' h'' : pb_H} (a : fr_x h h') (b : fr_x h' h'') : fr_x h h'' := fr_P.tr a b
theorem fr_x.at {h h' : pb_H} (a : fr_x h h') {b : Nat} {c : pb_C} (hb : h.2 b = some c) : h'.2 b = some c := a.2 b c hb trivial
theorem fr_x.P {P : Nat → pb_C → Prop} {h h' : pb_H} (a : fr_x h h') : fr_P P h h' := fr_P.mono a (fun _ _ _ _ => trivial)
theorem fr_x.nw {h h' : pb_H} (a : fr_x h h') (hf : fr_fin h) (x : pb_C) : fr_x h (pb_new h' x) := fr_P.nw a hf x
theorem fr_x.st {h h' : pb_H} (a : fr_x h h') (hf : fr_fin h) {b : Nat} (x : pb_C) (hb : h.1 ≤ b) : fr_x h (pb_set h' b x) := fr_P.st a x (fun c hc => by have := hf b c hc; omega)
theorem fr_x.ho {h h' : pb_H} (a : fr_x h h') {sz : Nat} (hs : h'.1 ≤ sz) : fr_x h (sz, h'.2) := fr_P.ho a hs
/-- a method that answers v and changes no old cell -/
def fr_Q (v : Option pb_V) (h : pb_H) : pb_O → pb_H → Prop := fun oc h' => oc = .inl v ∧ fr_x h h'
section ROWS57
variable {G : pb_G} {M M2 : pb_M} {n C S n2 C2 S2 : Nat} {Q Q2 : pb_O → pb_H → Prop} {k u pc : Nat} {L : List (Option pb_V)} {st a rest : List pb_V} {h : pb_H}
theorem pb_Ex.fin (kk : fr_fin h → pb_Ex G M n C S Q k u pc L st h) : pb_Ex G M n C S Q k u pc L st h := by
  intro p e R s m args below meth c X H locs ls hR hO hL hl hn
  exact kk (fun b c hb => hR.lt hb) p e R s m args below meth c X H locs ls hR hO hL hl hn
/-- the world's size is known -/
theorem pb_Ex.more {k2 u2 : Nat} (h1 : k ≤ k2) (h2 : u ≤ u2) (kk : pb_Ex G M n C S Q k2 u2 pc L st h) : pb_Ex G M n C S Q k u pc L st h := by
  intro p e R s m args below meth c X H locs ls hR hO hL hl hn
  exact W.widen h1 h2 (kk p e R s m args below meth c X H locs ls hR hO hL hl hn)
/-- calls of methods that read, and may make cells -/
theorem pb_Ex.rS {nx tg idx np : Nat} {v : Option pb_V} (hi : pb_ig (pb_tb M) pc = some (.invokestatic idx, nx, tg)) (hl : pb_lk3 (pb_lt M.1) idx = some (0, M2, np)) (hst : pb_take np st [] = some (a, rest)) (hsm : pb_sm rest = true) (hc : pb_Ctr G M2 n2 C2 S2 a h (fr_Q v h)) (hr : n2 < n) (hk9 : k + C2 ≤ C) (hu9 : u + S2 ≤ S) (kk : ∀ h', fr_x h h' → pb_Ex G M n C S Q (k + C2) (u + S2) nx L (v.toList ++ rest) h') : pb_Ex G M n C S Q k u pc L st h :=
  pb_Ex.cS hi hl hst hsm hc ⟨hr, hk9, hu9⟩ (fun v' h' hq => by obtain ⟨e1, e2⟩ := hq; cases e1; exact kk h' e2) (fun E q h' hq => by cases hq.1)
theorem pb_Ex.rV {nx tg idx np b ci : Nat} {fs As : List pb_V} {v : Option pb_V} (hi : pb_ig (pb_tb M) pc = some (.invokevirtual idx, nx, tg)) (hl : pb_lk3 (pb_lt M.1) idx = some (1, M2, np)) (hst : pb_take (np + 1) st [] = some (pb_r b :: As, rest)) (hsm : pb_sm rest = true) (hb9 : h.2 b = some (pb_ob ci fs)) (hcl : Nat.beq (pb_clo ci) M2.1 = true) (hcn : M2.2.1.cls = pb_cn M2.1) (hc : pb_Ctr G M2 n2 C2 S2 (pb_r b :: As) h (fr_Q v h)) (hr : n2 < n) (hk9 : k + C2 ≤ C) (hu9 : u + S2 ≤ S) (kk : ∀ h', fr_x h h' → pb_Ex G M n C S Q (k + C2) (u + S2) nx L (v.toList ++ rest) h') : pb_Ex G M n C S Q k u pc L st h :=
  pb_Ex.cV hi hl hst hsm hb9 hcl hcn hc ⟨hr, hk9, hu9⟩ (fun v' h' hq => by obtain ⟨e1, e2⟩ := hq; cases e1; exact kk h' e2) (fun E q h' hq => by cases hq.1)
theorem pb_P_fr {v : Option pb_V} {oc : pb_O} {h' : pb_H} (hq : pb_P v h oc h') : fr_Q v h oc h' := ⟨hq.1, by rw [hq.2]; exact fr_x.rf⟩
/-- a constructor's call (its contract says what is made) -/
theorem pb_Ex.cIo {nx tg idx np b : Nat} {As : List pb_V} {Qn : pb_H → Prop} (hi : pb_ig (pb_tb M) pc = some (.invokespecial idx, nx, tg)) (hl : pb_lk3 (pb_lt M.1) idx = some (2, M2, np)) (hst : pb_take (np + 1) st [] = some (pb_r b :: As, rest)) (hsm : pb_sm rest = true) (hc : pb_Ctr G M2 n2 C2 S2 (pb_r b :: As) h (fun oc h' => oc = .inl none ∧ Qn h')) (hr : n2 < n) (hk9 : k + C2 ≤ C) (hu9 : u + S2 ≤ S) (kk : ∀ h', Qn h' → pb_Ex G M n C S Q (k + C2) (u + S2) nx L rest h') : pb_Ex G M n C S Q k u pc L st h :=
  pb_Ex.cI hi hl hst hsm hc ⟨hr, hk9, hu9⟩ (fun v' h' hq => by obtain ⟨e1, e2⟩ := hq; cases e1; exact kk h' e2) (fun E q h' hq => by cases hq.1)
/-- checkcast of an array of bytes -/
theorem pb_Ex.castB {nx tg idx b N : Nat} {g : Nat → Int} (hi : pb_ig (pb_tb M) pc = some (.checkcast idx, nx, tg)) (hl : pb_lkS (pb_ct M.1) idx = some "[B") (hb9 : h.2 b = some (pb_aI 4 N g)) (kk : pb_Ex G M n C S Q k u nx L (pb_r b :: st) h) : pb_Ex G M n C S Q k u pc L (pb_r b :: st) h := by
  intro p e R s m args below meth c X H locs ls hR hO hL hl9 hn
  have X' := X
  obtain ⟨hx, hb, hml, hrt, hlk, hnm, hown, hts, hHT, hSF, hAl, hRm, hT, hsz⟩ := X
  obtain ⟨hd, rfl, hj⟩ := pb_ig_ok hT hi rfl
  obtain ⟨⟨hk0, hN, hcell⟩, -⟩ := hR.2.2 b _ hb9
  have hnmB : s.vm.findClass "[B" = some (G.2.2.2 4) := pb_raT hSF hAl 4 (by omega)
  exact va_castE hx hb hown (hts _ (pb_lkc hl)) ⟨_, hcell, rfl, hnmB⟩ hd (kk p e R s m args below meth c X' H locs ls hR hO hL hl9 hn)
end ROWS57
