set_option maxRecDepth 100000
/-! System.arraycopy -/
def pb_al : List (Nat × Nat) := [(2, 54), (22, 112), (24, 27), (27, 212), (6, 52), (33, 150)]
theorem pb_al_ok : ∀ x ∈ pb_al, Cond.methodLink (pb_cn x.1) x.2 arraycopyName ∈ lw_all := List.forall_mem_cons.mpr ⟨q534, List.forall_mem_cons.mpr ⟨q946, List.forall_mem_cons.mpr ⟨q1012, List.forall_mem_cons.mpr ⟨q1568, List.forall_mem_cons.mpr ⟨q532, List.forall_mem_cons.mpr ⟨q527, fun _ h => absurd h List.not_mem_nil⟩⟩⟩⟩⟩⟩
theorem pb_nneg {z : Nat} (h : z < 2147483648) : ¬ pb_I (z : Int) < 0 := by
  intro q
  rw [Int32.lt_iff_toInt_lt, pb_I_toInt ⟨by omega, by omega⟩, Int32.toInt_zero] at q
  omega
theorem pb_ncl {z : Nat} (h : z < 2147483648) : (pb_I (z : Int)).toNatClampNeg = z := by
  rw [pb_I_clamp (n := z + 1) (by omega) (by omega) (by omega)]
  exact Int.toNat_natCast z
theorem pb_nfw : nativeFrameWords "java/lang/System" "arraycopy" 5 ≤ 21 := by decide +kernel
theorem pb_wrR {N : Nat} {g : Nat → Option Nat} (h : N ≠ 0) : pb_wr (pb_aR N g) = true := by
  show (!(N == 0)) = true
  simp [h]
theorem pb_fitB {v : Int} (h : -128 ≤ v ∧ v < 128) : fits .byte (.int (pb_I v)) = true := by
  have h1 : (-128 : Int32) ≤ pb_I v := (pb_I_le (a := -128) ⟨by omega, by omega⟩ ⟨by omega, by omega⟩).mpr h.1
  have h2 : pb_I v ≤ (127 : Int32) := (pb_I_le (b := 127) ⟨by omega, by omega⟩ ⟨by omega, by omega⟩).mpr (by omega)
  show (decide ((-128 : Int32) ≤ pb_I v) && decide (pb_I v ≤ (127 : Int32))) = true
  rw [decide_eq_true h1, decide_eq_true h2]
  rfl
section ROWS50
variable {G : pb_G} {M M2 : pb_M} {n C S n2 C2 S2 : Nat} {Q Q2 : pb_O → pb_H → Prop} {k u pc : Nat} {L : List (Option pb_V)} {st a rest : List pb_V} {h : pb_H}
theorem pb_Ex.acpI {nx tg idx b0 b N0 N : Nat} {f g : Nat → Int} {zs zd zn : Int} (sp dp m9 : Nat) (hi : pb_ig (pb_tb M) pc = some (.invokestatic idx, nx, tg)) (hl : pb_lko pb_al M.1 idx = true) (ha0 : h.2 b0 = some (pb_aI 0 N0 f)) (ha : h.2 b = some (pb_aI 0 N g)) (hs : zs = (sp : Int)) (hd9 : zd = (dp : Int)) (hm : zn = (m9 : Int)) (h4 : sp + m9 ≤ N0) (h5 : dp + m9 ≤ N) (hsm : pb_sm st = true) (hr : 1 ≤ n) (kk : pb_Ex G M n C S Q k u nx L st (pb_set h b (pb_aI 0 N (va_cpy f g sp dp m9)))) : pb_Ex G M n C S Q k u pc L (pb_i zn :: pb_i zd :: pb_r b :: pb_i zs :: pb_r b0 :: st) h := by
  subst hs hd9 hm
  intro p e R s m args below meth c X H locs ls hR hO hL hl9 hn
  have X' := X
  obtain ⟨hx, hb, hml, hrt, hlk, hnm, hown, hts, hHT, hSF, hAl, hRm, hT9, hsz⟩ := X
  obtain ⟨hd, rfl, hj⟩ := pb_ig_ok hT9 hi rfl
  have hs9 := pb_sm_ok hsm
  obtain ⟨⟨-, hN0, hc0⟩, -⟩ := hR.2.2 b0 _ ha0
  obtain ⟨⟨-, hN1, hc1⟩, hab⟩ := hR.2.2 b _ ha
  have hab : pb_b G ≤ b := hab rfl
  have e1 := pb_ncl (z := sp) (by omega)
  have e2 := pb_ncl (z := dp) (by omega)
  have e3 := pb_ncl (z := m9) (by omega)
  intro T hT X
  obtain ⟨-, k0, hk0, cm0, hkk0⟩ := pb_arrT hSF hAl 0 (by omega) N0 (fun j => .int (pb_I (f j)))
  obtain ⟨-, k1, hk1, cm1, hkk1⟩ := pb_arrT hSF hAl 0 (by omega) N (fun j => .int (pb_I (g j)))
  obtain ⟨vm', X', step⟩ := X.arraycopy hx hown (hts _ (pb_al_ok _ (pb_lko_ok hl))) (hts _ q529) (hts _ q528) (hts _ q95) (src := b0) (dst := b) (cs := arrV (G.2.2.2 0) N0 (fun j => .int (pb_I (f j)))) (cd := arrV (G.2.2.2 0) N (fun j => .int (pb_I (g j)))) (srcPos := pb_I (sp : Int)) (destPos := pb_I (dp : Int)) (n := pb_I (m9 : Int)) (by rw [hT]; exact hc0) (by rw [hT]; exact hc1)
    (fun _ h9 => by cases h9) (fun _ h9 => by cases h9) (fun h9 => by cases h9) (fun h9 => by cases h9) hk0 hk1 hkk0 hkk1 rfl (pb_nneg (by omega)) (pb_nneg (by omega)) (pb_nneg (by omega))
    (by rw [pb_I_toInt ⟨by omega, by omega⟩, pb_I_toInt ⟨by omega, by omega⟩, arrV_size]; omega)
    (by rw [pb_I_toInt ⟨by omega, by omega⟩, pb_I_toInt ⟨by omega, by omega⟩, arrV_size]; omega)
    (fun vm₁ hal i hi9 => by
      rw [e1]
      rw [e3] at hi9
      have e : (arrV (G.2.2.2 0) N0 (fun j => .int (pb_I (f j)))).slots.getD (sp + i) .null = .int (pb_I (f (sp + i))) := by
        rw [Array.getD_eq_getD_getElem?, arrV_read _ _ (by omega)]
        rfl
      rw [e]
      exact ⟨rfl, trivial⟩)
    (g := F0 m pc ls ((pb_i (m9 : Int) :: pb_i (dp : Int) :: pb_r b :: pb_i (sp : Int) :: pb_r b0 :: st).map pb_cv)) rfl (hl9.1.trans hml.symm) (rest := st.map pb_cv) rfl (by rw [hb]; exact hd) (by omega) (by show 2 * 0 + _ + (nativeFrameWords "java/lang/System" "arraycopy" 5 + 11) ≤ _; have := pb_nfw; omega)
  have e5 : copied (arrV (G.2.2.2 0) N0 (fun j => .int (pb_I (f j)))) (arrV (G.2.2.2 0) N (fun j => .int (pb_I (g j)))) (pb_I (sp : Int)) (pb_I (dp : Int)) (pb_I (m9 : Int)) = arrV (G.2.2.2 0) N (fun j => .int (pb_I (va_cpy f g sp dp m9 j))) := by
    have := va_copied (fun z => .int (pb_I z)) (G.2.2.2 0) (G.2.2.2 0) (n0 := N0) (n1 := N) (sp := sp) (dp := dp) (n := m9) f g h4
    unfold copied
    rw [e1, e2, e3]
    exact this
  rw [e5] at X' step
  have hlt : b < H.size := (Array.getElem?_eq_some_iff.mp hc1).1
  have hheap : ((T.setVm vm').setCell b (arrV (G.2.2.2 0) N (fun j => .int (pb_I (va_cpy f g sp dp m9 j))))).heap = H.setIfInBounds b (arrV (G.2.2.2 0) N (fun j => .int (pb_I (va_cpy f g sp dp m9 j)))) := by rw [← hT]; rfl
  have oq : ∀ q : Nat, q ≠ b → (H.setIfInBounds b (arrV (G.2.2.2 0) N (fun j => .int (pb_I (va_cpy f g sp dp m9 j)))))[q]? = H[q]? := fun q hq => by simp [Array.getElem?_setIfInBounds, Ne.symm hq]
  obtain ⟨t, a1, b1⟩ := kk p e R s m args below meth c ‹_› (H.setIfInBounds b (arrV (G.2.2.2 0) N (fun j => .int (pb_I (va_cpy f g sp dp m9 j))))) _ ls (hR.set (y := pb_aI 0 N (va_cpy f g sp dp m9)) ⟨by omega, hN1, by simp [Array.getElem?_setIfInBounds, hlt]⟩ hab (by simp) oq) (hO.set hab oq) (fun z hz => by
    rcases List.mem_append.mp hz with h9 | h9
    · exact hL z h9
    · obtain ⟨z9, -, hz9⟩ := List.mem_map.mp h9
      rw [← hz9]
      exact hab) hl9 hn _ hheap X'
  exact ⟨t, step t a1, b1⟩
theorem pb_Ex.acpB {nx tg idx b0 b N0 N : Nat} {f g : Nat → Int} {zs zd zn : Int} (sp dp m9 : Nat) (hi : pb_ig (pb_tb M) pc = some (.invokestatic idx, nx, tg)) (hl : pb_lko pb_al M.1 idx = true) (ha0 : h.2 b0 = some (pb_aI 4 N0 f)) (ha : h.2 b = some (pb_aI 4 N g)) (hs : zs = (sp : Int)) (hd9 : zd = (dp : Int)) (hm : zn = (m9 : Int)) (h4 : sp + m9 ≤ N0) (h5 : dp + m9 ≤ N) (hab9 : pb_b G ≤ b) (hft : ∀ i, i < m9 → -128 ≤ f (sp + i) ∧ f (sp + i) < 128) (hsm : pb_sm st = true) (hr : 1 ≤ n) (kk : pb_Ex G M n C S Q k u nx L st (pb_set h b (pb_aI 4 N (va_cpy f g sp dp m9)))) : pb_Ex G M n C S Q k u pc L (pb_i zn :: pb_i zd :: pb_r b :: pb_i zs :: pb_r b0 :: st) h := by
  subst hs hd9 hm
  intro p e R s m args below meth c X H locs ls hR hO hL hl9 hn
  have X' := X
  obtain ⟨hx, hb, hml, hrt, hlk, hnm, hown, hts, hHT, hSF, hAl, hRm, hT9, hsz⟩ := X
  obtain ⟨hd, rfl, hj⟩ := pb_ig_ok hT9 hi rfl
  have hs9 := pb_sm_ok hsm
  obtain ⟨⟨-, hN0, hc0⟩, -⟩ := hR.2.2 b0 _ ha0
  obtain ⟨⟨-, hN1, hc1⟩, hab⟩ := hR.2.2 b _ ha
  have hab : pb_b G ≤ b := hab9
  have e1 := pb_ncl (z := sp) (by omega)
  have e2 := pb_ncl (z := dp) (by omega)
  have e3 := pb_ncl (z := m9) (by omega)
  intro T hT X
  obtain ⟨-, k0, hk0, cm0, hkk0⟩ := pb_arrT hSF hAl 4 (by omega) N0 (fun j => .int (pb_I (f j)))
  obtain ⟨-, k1, hk1, cm1, hkk1⟩ := pb_arrT hSF hAl 4 (by omega) N (fun j => .int (pb_I (g j)))
  obtain ⟨vm', X', step⟩ := X.arraycopy hx hown (hts _ (pb_al_ok _ (pb_lko_ok hl))) (hts _ q529) (hts _ q528) (hts _ q95) (src := b0) (dst := b) (cs := arrV (G.2.2.2 4) N0 (fun j => .int (pb_I (f j)))) (cd := arrV (G.2.2.2 4) N (fun j => .int (pb_I (g j)))) (srcPos := pb_I (sp : Int)) (destPos := pb_I (dp : Int)) (n := pb_I (m9 : Int)) (by rw [hT]; exact hc0) (by rw [hT]; exact hc1)
    (fun _ h9 => by cases h9) (fun _ h9 => by cases h9) (fun h9 => by cases h9) (fun h9 => by cases h9) hk0 hk1 hkk0 hkk1 rfl (pb_nneg (by omega)) (pb_nneg (by omega)) (pb_nneg (by omega))
    (by rw [pb_I_toInt ⟨by omega, by omega⟩, pb_I_toInt ⟨by omega, by omega⟩, arrV_size]; omega)
    (by rw [pb_I_toInt ⟨by omega, by omega⟩, pb_I_toInt ⟨by omega, by omega⟩, arrV_size]; omega)
    (fun vm₁ hal i hi9 => by
      rw [e1]
      rw [e3] at hi9
      have e : (arrV (G.2.2.2 4) N0 (fun j => .int (pb_I (f j)))).slots.getD (sp + i) .null = .int (pb_I (f (sp + i))) := by
        rw [Array.getD_eq_getD_getElem?, arrV_read _ _ (by omega)]
        rfl
      rw [e]
      exact ⟨pb_fitB (hft i hi9), trivial⟩)
    (g := F0 m pc ls ((pb_i (m9 : Int) :: pb_i (dp : Int) :: pb_r b :: pb_i (sp : Int) :: pb_r b0 :: st).map pb_cv)) rfl (hl9.1.trans hml.symm) (rest := st.map pb_cv) rfl (by rw [hb]; exact hd) (by omega) (by show 2 * 0 + _ + (nativeFrameWords "java/lang/System" "arraycopy" 5 + 11) ≤ _; have := pb_nfw; omega)
  have e5 : copied (arrV (G.2.2.2 4) N0 (fun j => .int (pb_I (f j)))) (arrV (G.2.2.2 4) N (fun j => .int (pb_I (g j)))) (pb_I (sp : Int)) (pb_I (dp : Int)) (pb_I (m9 : Int)) = arrV (G.2.2.2 4) N (fun j => .int (pb_I (va_cpy f g sp dp m9 j))) := by
    have := va_copied (fun z => .int (pb_I z)) (G.2.2.2 4) (G.2.2.2 4) (n0 := N0) (n1 := N) (sp := sp) (dp := dp) (n := m9) f g h4
    unfold copied
    rw [e1, e2, e3]
    exact this
  rw [e5] at X' step
  have hlt : b < H.size := (Array.getElem?_eq_some_iff.mp hc1).1
  have hheap : ((T.setVm vm').setCell b (arrV (G.2.2.2 4) N (fun j => .int (pb_I (va_cpy f g sp dp m9 j))))).heap = H.setIfInBounds b (arrV (G.2.2.2 4) N (fun j => .int (pb_I (va_cpy f g sp dp m9 j)))) := by rw [← hT]; rfl
  have oq : ∀ q : Nat, q ≠ b → (H.setIfInBounds b (arrV (G.2.2.2 4) N (fun j => .int (pb_I (va_cpy f g sp dp m9 j)))))[q]? = H[q]? := fun q hq => by simp [Array.getElem?_setIfInBounds, Ne.symm hq]
  obtain ⟨t, a1, b1⟩ := kk p e R s m args below meth c ‹_› (H.setIfInBounds b (arrV (G.2.2.2 4) N (fun j => .int (pb_I (va_cpy f g sp dp m9 j))))) _ ls (hR.set (y := pb_aI 4 N (va_cpy f g sp dp m9)) ⟨by omega, hN1, by simp [Array.getElem?_setIfInBounds, hlt]⟩ hab (by simp) oq) (hO.set hab oq) (fun z hz => by
    rcases List.mem_append.mp hz with h9 | h9
    · exact hL z h9
    · obtain ⟨z9, -, hz9⟩ := List.mem_map.mp h9
      rw [← hz9]
      exact hab) hl9 hn _ hheap X'
  exact ⟨t, step t a1, b1⟩
theorem pb_Ex.acpR {nx tg idx b0 b N0 N : Nat} {f g : Nat → Option Nat} {zs zd zn : Int} (sp dp m9 : Nat) (hi : pb_ig (pb_tb M) pc = some (.invokestatic idx, nx, tg)) (hl : pb_lko pb_al M.1 idx = true) (ha0 : h.2 b0 = some (pb_aR N0 f)) (ha : h.2 b = some (pb_aR N g)) (hs : zs = (sp : Int)) (hd9 : zd = (dp : Int)) (hm : zn = (m9 : Int)) (h4 : sp + m9 ≤ N0) (h5 : dp + m9 ≤ N) (hN9 : 0 < N) (hel : ∀ i, i < m9 → ∀ y, f (sp + i) = some y → ∃ ci fs, h.2 y = some (pb_ob ci fs)) (hsm : pb_sm st = true) (hr : 1 ≤ n) (kk : pb_Ex G M n C S Q k u nx L st (pb_set h b (pb_aR N (va_cpy f g sp dp m9)))) : pb_Ex G M n C S Q k u pc L (pb_i zn :: pb_i zd :: pb_r b :: pb_i zs :: pb_r b0 :: st) h := by
  subst hs hd9 hm
  intro p e R s m args below meth c X H locs ls hR hO hL hl9 hn
  have X' := X
  obtain ⟨hx, hb, hml, hrt, hlk, hnm, hown, hts, hHT, hSF, hAl, hRm, hT9, hsz⟩ := X
  obtain ⟨hd, rfl, hj⟩ := pb_ig_ok hT9 hi rfl
  have hs9 := pb_sm_ok hsm
  obtain ⟨⟨hN0, hc0⟩, -⟩ := hR.2.2 b0 _ ha0
  obtain ⟨⟨hN1, hc1⟩, hab⟩ := hR.2.2 b _ ha
  have hab : pb_b G ≤ b := hab (pb_wrR (by omega))
  have e1 := pb_ncl (z := sp) (by omega)
  have e2 := pb_ncl (z := dp) (by omega)
  have e3 := pb_ncl (z := m9) (by omega)
  intro T hT X
  obtain ⟨-, k0, hk0, cm0, hkk0⟩ := pb_arrT hSF hAl 6 (by omega) N0 (fun j => va_rf (f j))
  obtain ⟨-, k1, hk1, cm1, hkk1⟩ := pb_arrT hSF hAl 6 (by omega) N (fun j => va_rf (g j))
  obtain ⟨vm', X', step⟩ := X.arraycopy hx hown (hts _ (pb_al_ok _ (pb_lko_ok hl))) (hts _ q529) (hts _ q528) (hts _ q95) (src := b0) (dst := b) (cs := arrV (G.2.2.2 6) N0 (fun j => va_rf (f j))) (cd := arrV (G.2.2.2 6) N (fun j => va_rf (g j))) (srcPos := pb_I (sp : Int)) (destPos := pb_I (dp : Int)) (n := pb_I (m9 : Int)) (by rw [hT]; exact hc0) (by rw [hT]; exact hc1)
    (fun _ h9 => by cases h9) (fun _ h9 => by cases h9) (fun h9 => by cases h9) (fun h9 => by cases h9) hk0 hk1 hkk0 hkk1 rfl (pb_nneg (by omega)) (pb_nneg (by omega)) (pb_nneg (by omega))
    (by rw [pb_I_toInt ⟨by omega, by omega⟩, pb_I_toInt ⟨by omega, by omega⟩, arrV_size]; omega)
    (by rw [pb_I_toInt ⟨by omega, by omega⟩, pb_I_toInt ⟨by omega, by omega⟩, arrV_size]; omega)
    (fun vm₁ hal i hi9 => by
      rw [e1]
      rw [e3] at hi9
      have e : (arrV (G.2.2.2 6) N0 (fun j => va_rf (f j))).slots.getD (sp + i) .null = va_rf (f (sp + i)) := by
        rw [Array.getD_eq_getD_getElem?, arrV_read _ _ (by omega)]
        rfl
      rw [e]
      cases hy : f (sp + i) with
      | none => exact ⟨rfl, trivial⟩
      | some y =>
        obtain ⟨ci, fs, hyo⟩ := hel i hi9 y hy
        obtain ⟨cellV, g1, g2, ⟨kC, hkC⟩, hasg⟩ := pb_anyO hSF hAl hR hyo
        obtain ⟨kA, comp, r1, r2, r3, -⟩ := pb_raT hSF hAl 6 (by omega)
        cases hk1.symm.trans r1
        cases hkk1.symm.trans r2
        obtain ⟨kE, hkE, -⟩ := Vm.findClass_spec r3
        obtain ⟨kC', hkC', -⟩ := hal.2.2 _ _ hkC
        obtain ⟨kE', hkE', -⟩ := hal.2.2 _ _ hkE
        refine ⟨rfl, cellV, (show T.heap[y]? = some cellV by rw [hT]; exact g1), (fun q h9 => by rw [h9] at g2; cases g2), ⟨kC', hkC'⟩, ?_, ?_⟩
        · exact ⟨kE', hkE'⟩
        · show vm₁.assignable _ _ = true
          rw [hal.assignable]
          exact hasg _ r3)
    (g := F0 m pc ls ((pb_i (m9 : Int) :: pb_i (dp : Int) :: pb_r b :: pb_i (sp : Int) :: pb_r b0 :: st).map pb_cv)) rfl (hl9.1.trans hml.symm) (rest := st.map pb_cv) rfl (by rw [hb]; exact hd) (by omega) (by show 2 * 0 + _ + (nativeFrameWords "java/lang/System" "arraycopy" 5 + 11) ≤ _; have := pb_nfw; omega)
  have e5 : copied (arrV (G.2.2.2 6) N0 (fun j => va_rf (f j))) (arrV (G.2.2.2 6) N (fun j => va_rf (g j))) (pb_I (sp : Int)) (pb_I (dp : Int)) (pb_I (m9 : Int)) = arrV (G.2.2.2 6) N (fun j => va_rf (va_cpy f g sp dp m9 j)) := by
    have := va_copied (fun z => va_rf z) (G.2.2.2 6) (G.2.2.2 6) (n0 := N0) (n1 := N) (sp := sp) (dp := dp) (n := m9) f g h4
    unfold copied
    rw [e1, e2, e3]
    exact this
  rw [e5] at X' step
  have hlt : b < H.size := (Array.getElem?_eq_some_iff.mp hc1).1
  have hheap : ((T.setVm vm').setCell b (arrV (G.2.2.2 6) N (fun j => va_rf (va_cpy f g sp dp m9 j)))).heap = H.setIfInBounds b (arrV (G.2.2.2 6) N (fun j => va_rf (va_cpy f g sp dp m9 j))) := by rw [← hT]; rfl
  have oq : ∀ q : Nat, q ≠ b → (H.setIfInBounds b (arrV (G.2.2.2 6) N (fun j => va_rf (va_cpy f g sp dp m9 j))))[q]? = H[q]? := fun q hq => by simp [Array.getElem?_setIfInBounds, Ne.symm hq]
  obtain ⟨t, a1, b1⟩ := kk p e R s m args below meth c ‹_› (H.setIfInBounds b (arrV (G.2.2.2 6) N (fun j => va_rf (va_cpy f g sp dp m9 j)))) _ ls (hR.set (y := pb_aR N (va_cpy f g sp dp m9)) ⟨hN1, by simp [Array.getElem?_setIfInBounds, hlt]⟩ hab (by simp) oq) (hO.set hab oq) (fun z hz => by
    rcases List.mem_append.mp hz with h9 | h9
    · exact hL z h9
    · obtain ⟨z9, -, hz9⟩ := List.mem_map.mp h9
      rw [← hz9]
      exact hab) hl9 hn _ hheap X'
  exact ⟨t, step t a1, b1⟩
end ROWS50
