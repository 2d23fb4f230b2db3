set_option maxRecDepth 100000
/-! ARRAYS OF REFERENCES, CONSTANTS, STATICS -/
theorem pb_toO : ∀ (ci : Nat) (r : vw_C), pb_cl[ci]? = some r → Cond.castable r.1 "java/lang/Object" ∈ lw_tbl
  | 0, _, h => by cases h; exact q2416
  | 1, _, h => by cases h; exact q2417
  | 2, _, h => by cases h; exact q2419
  | 3, _, h => by cases h; exact q2422
  | 4, _, h => by cases h; exact q2423
  | 5, _, h => by cases h; exact q2424
  | 6, _, h => by cases h; exact q2429
  | 7, _, h => by cases h; exact q2430
  | 8, _, h => by cases h; exact q2433
  | 9, _, h => by cases h; exact q2438
  | 10, _, h => by cases h; exact q2442
  | 11, _, h => by cases h; exact q2443
  | 12, _, h => by cases h; exact q2418
  | 13, _, h => by cases h; exact q2420
  | 14, _, h => by cases h; exact q2421
  | 15, _, h => by cases h; exact q2440
  | 16, _, h => by cases h; exact q2419
  | k + 17, _, h => by simp [pb_cl] at h
/-- an object may lie in an array of objects -/
theorem pb_anyO {G : pb_G} {s : State} {H : Heap} {h : pb_H} (hSF : pb_SF G) (hAl : G.2.1.vm.Alike s.vm) (hR : pb_Rep G h H) {v ci : Nat} {fs : List pb_V} (hv : h.2 v = some (pb_ob ci fs)) : va_Any "java/lang/Object" s H v := by
  obtain ⟨r, hcr⟩ : ∃ r, pb_cl[ci]? = some r := by
    obtain ⟨⟨r, h1, -⟩, -⟩ := hR.2.2 v _ hv
    exact ⟨r, h1⟩
  obtain ⟨cell, h1, h2, h3⟩ := pb_recv (s := s) hSF hAl hR hv hcr
  obtain ⟨kC, hkC, -⟩ := Vm.findClass_spec h3
  refine ⟨cell, h1, h2, ⟨kC, hkC⟩, fun comp hcomp => ?_⟩
  obtain ⟨Aw, hw⟩ := pb_tbl (s := s) hSF (pb_toO ci r hcr)
  obtain ⟨c0, t0, f1, f2, f3⟩ := Cond.castable_spec hw
  have g1 : s.vm.findClass r.1 = some c0 := by rw [hAl.findClass]; exact f1
  have g2 : s.vm.findClass "java/lang/Object" = some t0 := by rw [hAl.findClass]; exact f2
  cases Option.some.inj (g1.symm.trans h3)
  cases Option.some.inj (g2.symm.trans hcomp)
  rw [hAl.assignable]
  exact f3
section ROWS49
variable {G : pb_G} {M M2 : pb_M} {n C S n2 C2 S2 : Nat} {Q Q2 : pb_O → pb_H → Prop} {k u pc : Nat} {L : List (Option pb_V)} {st a rest : List pb_V} {h : pb_H}
theorem pb_Ex.aast0 {nx tg a N v : Nat} {g : Nat → Option Nat} {z : Int} (hi : pb_ig (pb_tb M) pc = some (.aastore, nx, tg)) (ha : h.2 a = some (pb_aR N g)) (h0 : 0 ≤ z) (h1 : z < N) (hv : ∀ (s : State) (H : Heap), pb_SF G → G.2.1.vm.Alike s.vm → pb_Rep G h H → pb_Old G H → va_Any "java/lang/Object" s H v) (kk : pb_Ex G M n C S Q k u nx L st (pb_set h a (pb_aR N (va_up g z.toNat (some v))))) : pb_Ex G M n C S Q k u pc L (pb_r v :: pb_i z :: pb_r a :: st) h := by
  intro p e R s m args below meth c X H locs ls hR hO hL hl hn
  have X' := X
  obtain ⟨hx, hb, hml, hrt, hlk, hnm, hown, hts, hHT, hSF, hAl, hRm, hT, hsz⟩ := X
  obtain ⟨hd, rfl, hj⟩ := pb_ig_ok hT hi rfl
  obtain ⟨⟨hN, hcell⟩, hab⟩ := hR.2.2 a _ ha
  have hab := hab (by show (!(N == 0)) = true; have : ¬ N = 0 := by omega
                      simp [this])
  obtain ⟨cellV, g1, g3, ⟨kC, hkC⟩, hasg⟩ := hv s H hSF hAl hR hO
  obtain ⟨kA, comp, k1, k2, k3, -⟩ := pb_raT hSF hAl 6 (by omega)
  obtain ⟨kE, hkE, -⟩ := Vm.findClass_spec k3
  refine W.aast hx hb hcell (fun q h9 => by cases h9) (fun h9 => by cases h9) k1 k2 rfl hkE ⟨fun q => pb_inA (cA := G.2.2.2 6) (f := fun j => va_rf (g j)) h0 h1 hN (Or.inl q), ?_⟩ g1 (fun q h9 => by rw [h9] at g3; cases g3) hkC (hasg _ k3) rfl rfl hd fun H1 e1 z1 oq => ?_
  · rw [arrV_size, pb_I_clamp h0 h1 (by omega)]; omega
  · rw [pb_I_clamp h0 h1 (by omega)] at e1
    have e2 : H1[a]? = some (arrV (G.2.2.2 6) N (fun j => va_rf (va_up g z.toNat (some v) j))) := by
      rw [e1, pb_updR, ← arrV_store]
      rfl
    exact kk p e R s m args below meth c X' H1 _ ls (hR.set (y := pb_aR N (va_up g z.toNat (some v))) ⟨hN, e2⟩ hab z1 oq) (hO.set hab oq) (pb_locs hL hab) hl hn
/-- an object is put into an array of objects -/
theorem pb_Ex.aast {nx tg a N v ci : Nat} {fs : List pb_V} {g : Nat → Option Nat} {z : Int} (i : Nat) (hi : pb_ig (pb_tb M) pc = some (.aastore, nx, tg)) (ha : h.2 a = some (pb_aR N g)) (hz : z = (i : Int)) (h1 : i < N) (hv : h.2 v = some (pb_ob ci fs)) (kk : pb_Ex G M n C S Q k u nx L st (pb_set h a (pb_aR N (va_up g i (some v))))) : pb_Ex G M n C S Q k u pc L (pb_r v :: pb_i z :: pb_r a :: st) h := by
  subst hz
  exact pb_Ex.aast0 hi ha (by omega) (by omega) (fun s H a1 a2 a3 _ => pb_anyO a1 a2 a3 hv) (by rw [Int.toNat_natCast]; exact kk)
theorem pb_Ex.aastN {nx tg a N : Nat} {g : Nat → Option Nat} {z : Int} (i : Nat) (hi : pb_ig (pb_tb M) pc = some (.aastore, nx, tg)) (ha : h.2 a = some (pb_aR N g)) (hz : z = (i : Int)) (h1 : i < N) (kk : pb_Ex G M n C S Q k u nx L st (pb_set h a (pb_aR N (va_up g i none)))) : pb_Ex G M n C S Q k u pc L (pb_0 :: pb_i z :: pb_r a :: st) h := by
  subst hz
  intro p e R s m args below meth c X H locs ls hR hO hL hl hn
  have X' := X
  obtain ⟨hx, hb, hml, hrt, hlk, hnm, hown, hts, hHT, hSF, hAl, hRm, hT, hsz⟩ := X
  obtain ⟨hd, rfl, hj⟩ := pb_ig_ok hT hi rfl
  obtain ⟨⟨hN, hcell⟩, hab⟩ := hR.2.2 a _ ha
  have hab := hab (by show (!(N == 0)) = true; have : ¬ N = 0 := by omega
                      simp [this])
  refine va_WaastN (C := "java/lang/Object") hx hb hcell (pb_arrT hSF hAl 6 (by omega) _ _) (fun h9 => by cases h9) (pb_inA (by omega) (by omega) hN) rfl rfl hd fun H1 e1 z1 oq => ?_
  rw [pb_I_clamp (n := N) (by omega) (by omega) (by omega), Int.toNat_natCast] at e1
  have e2 : H1[a]? = some (arrV (G.2.2.2 6) N (fun j => va_rf (va_up g i none j))) := by
    rw [e1, pb_updR, ← arrV_store]
    rfl
  exact kk p e R s m args below meth c X' H1 _ ls (hR.set (y := pb_aR N (va_up g i none)) ⟨hN, e2⟩ hab z1 oq) (hO.set hab oq) (pb_locs hL hab) hl hn
/-- reading an array of references at a known place -/
theorem pb_Ex.aat {nx tg b N : Nat} {g : Nat → Option Nat} {z : Int} (j : Nat) (hi : pb_ig (pb_tb M) pc = some (.aaload, nx, tg)) (ha : h.2 b = some (pb_aR N g)) (hz : z = (j : Int)) (h1 : j < N) (kk : pb_Ex G M n C S Q k u nx L (pb_q (g j) :: st) h) : pb_Ex G M n C S Q k u pc L (pb_i z :: pb_r b :: st) h := by
  subst hz
  exact pb_Ex.aald hi ha (by omega) (by omega) (by rw [Int.toNat_natCast]; exact kk)
theorem pb_Ex.zat {nx tg b N : Nat} {g : Nat → Int} {z : Int} (j : Nat) (hi : pb_ig (pb_tb M) pc = some (.baload, nx, tg)) (ha : h.2 b = some (pb_aI 1 N g)) (hz : z = (j : Int)) (h1 : j < N) (kk : pb_Ex G M n C S Q k u nx L (pb_i (g j) :: st) h) : pb_Ex G M n C S Q k u pc L (pb_i z :: pb_r b :: st) h := by
  subst hz
  exact pb_Ex.zald hi ha (by omega) (by omega) (by rw [Int.toNat_natCast]; exact kk)
theorem pb_Ex.bat {nx tg b N : Nat} {g : Nat → Int} {z : Int} (j : Nat) (hi : pb_ig (pb_tb M) pc = some (.baload, nx, tg)) (ha : h.2 b = some (pb_aI 4 N g)) (hz : z = (j : Int)) (h1 : j < N) (kk : pb_Ex G M n C S Q k u nx L (pb_i (g j) :: st) h) : pb_Ex G M n C S Q k u pc L (pb_i z :: pb_r b :: st) h := by
  subst hz
  exact pb_Ex.bald hi ha (by omega) (by omega) (by rw [Int.toNat_natCast]; exact kk)
theorem pb_Ex.istat {nx tg b N : Nat} {g : Nat → Int} {z v : Int} (j : Nat) (hi : pb_ig (pb_tb M) pc = some (.iastore, nx, tg)) (ha : h.2 b = some (pb_aI 0 N g)) (hz : z = (j : Int)) (h1 : j < N) (kk : pb_Ex G M n C S Q k u nx L st (pb_set h b (pb_aI 0 N (va_up g j v)))) : pb_Ex G M n C S Q k u pc L (pb_i v :: pb_i z :: pb_r b :: st) h := by
  subst hz
  exact pb_Ex.iast hi ha (by omega) (by omega) (by rw [Int.toNat_natCast]; exact kk)
theorem pb_Ex.zstat {nx tg b N : Nat} {g : Nat → Int} {z v : Int} (j : Nat) (hi : pb_ig (pb_tb M) pc = some (.bastore, nx, tg)) (ha : h.2 b = some (pb_aI 1 N g)) (hz : z = (j : Int)) (h1 : j < N) (hv : v = 0 ∨ v = 1) (kk : pb_Ex G M n C S Q k u nx L st (pb_set h b (pb_aI 1 N (va_up g j v)))) : pb_Ex G M n C S Q k u pc L (pb_i v :: pb_i z :: pb_r b :: st) h := by
  subst hz
  exact pb_Ex.zast hi ha (by omega) (by omega) hv (by rw [Int.toNat_natCast]; exact kk)
theorem pb_Ex.bstat {nx tg b N : Nat} {g : Nat → Int} {z v : Int} (j : Nat) (hi : pb_ig (pb_tb M) pc = some (.bastore, nx, tg)) (ha : h.2 b = some (pb_aI 4 N g)) (hz : z = (j : Int)) (h1 : j < N) (hab : pb_b G ≤ b) (hv : -128 ≤ v ∧ v < 128) (kk : pb_Ex G M n C S Q k u nx L st (pb_set h b (pb_aI 4 N (va_up g j v)))) : pb_Ex G M n C S Q k u pc L (pb_i v :: pb_i z :: pb_r b :: st) h := by
  subst hz
  exact pb_Ex.bast hi ha (by omega) (by omega) hab hv (by rw [Int.toNat_natCast]; exact kk)
/-- an int constant -/
theorem pb_Ex.ldcI {nx tg idx : Nat} (z : Int) (hi : pb_ig (pb_tb M) pc = some (.ldc idx, nx, tg)) (hc : Cond.constant (pb_cn M.1) idx (pb_I z) ∈ lw_all) (kk : pb_Ex G M n C S Q k u nx L (pb_i z :: st) h) : pb_Ex G M n C S Q k u pc L st h := by
  intro p e R s m args below meth c X H locs ls hR hO hL hl hn
  have X' := X
  obtain ⟨hx, hb, hml, hrt, hlk, hnm, hown, hts, hHT, hSF, hAl, hRm, hT, hsz⟩ := X
  obtain ⟨hd, rfl, hj⟩ := pb_ig_ok hT hi rfl
  exact lv_ldc hx hb hown (hts _ hc) hd (kk p e R s m args below meth c X' H locs ls hR hO hL hl hn)
/-- a static field that nobody writes: known at the start -/
def pb_stc (G : pb_G) (Cn nm d : String) (v : pb_V) : Prop := va_Z Cn nm d (pb_cv v) (fun _ => False) G.2.1 G.2.1.heap
theorem pb_stc.at {Cn nm d : String} {v : pb_V} (hZ : pb_stc G Cn nm d v) {s : State} {H : Heap} (hAl : G.2.1.vm.Alike s.vm) (hO : pb_Old G H) : va_Z Cn nm d (pb_cv v) (fun _ => False) s H :=
  va_Z.moved hAl (va_Z.kept hZ (fun a ha _ => hO a ha))
theorem pb_Ex.gets {nx tg idx : Nat} {Cn nm d : String} {v : pb_V} (hi : pb_ig (pb_tb M) pc = some (.getstatic idx, nx, tg)) (hZ : pb_stc G Cn nm d v) (hc : Cond.fieldLink (pb_cn M.1) idx Cn nm d ∈ lw_all) (kk : pb_Ex G M n C S Q k u nx L (v :: st) h) : pb_Ex G M n C S Q k u pc L st h := by
  intro p e R s m args below meth c X H locs ls hR hO hL hl hn
  have X' := X
  obtain ⟨hx, hb, hml, hrt, hlk, hnm, hown, hts, hHT, hSF, hAl, hRm, hT, hsz⟩ := X
  obtain ⟨hd, rfl, hj⟩ := pb_ig_ok hT hi rfl
  obtain ⟨cf, kf, fi, f, a, cell, h1, h2, h3, h4, h5, h6, h7, h8⟩ := hZ.at hAl hO
  exact W.gets hx hb hown (hts _ hc) h1 h2 h3 h4 h5 (fun e9 => by rw [e9] at h6; cases h6) h7 rfl hd (kk p e R s m args below meth c X' H locs ls hR hO hL hl hn)
end ROWS49
