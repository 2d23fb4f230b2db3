set_option maxRecDepth 100000
/-! A CONSTRUCTOR'S WORLD: the object o, new cells behind h0, all else as in h0 -/
def pb_reg (h0 : pb_H) (o ci : Nat) (fs : List pb_V) (as : List pb_C) (h : pb_H) : Prop := o < h0.1 ∧ h.1 = h0.1 + as.length ∧ h.2 o = some (pb_ob ci fs) ∧ (∀ (i : Nat) (c : pb_C), as[i]? = some c → h.2 (h0.1 + i) = some c) ∧ ∀ b, b ≠ o → b < h0.1 → h.2 b = h0.2 b
theorem pb_reg.start {h : pb_H} {o ci : Nat} {fs : List pb_V} (ho : o < h.1) (hb : h.2 o = some (pb_ob ci fs)) : pb_reg h o ci fs [] h := ⟨ho, rfl, hb, fun _ _ q => by simp at q, fun _ _ _ => rfl⟩
theorem pb_reg.nw {h0 h : pb_H} {o ci : Nat} {fs : List pb_V} {as : List pb_C} (hR : pb_reg h0 o ci fs as h) (x : pb_C) : pb_reg h0 o ci fs (as ++ [x]) (pb_new h x) := by
  obtain ⟨h1, h2, h3, h4, h5⟩ := hR
  refine ⟨h1, by show h.1 + 1 = _; rw [List.length_append, List.length_singleton, h2, Nat.add_assoc], ?_, fun i c hc => ?_, fun b hb hl => ?_⟩
  · rw [pb_new_ne (by omega)]; exact h3
  · by_cases e : i < as.length
    · rw [List.getElem?_append_left e] at hc
      rw [pb_new_ne (by omega)]
      exact h4 i c hc
    · rw [List.getElem?_append_right (by omega)] at hc
      have e2 : i - as.length < 1 := (List.getElem?_eq_some_iff.mp hc).1
      have e3 : i = as.length := by omega
      subst e3
      rw [Nat.sub_self] at hc
      cases hc
      rw [← h2]
      exact pb_new_same
  · rw [pb_new_ne (by omega)]; exact h5 b hb hl
theorem pb_reg.put {h0 h : pb_H} {o ci : Nat} {fs : List pb_V} {as : List pb_C} (hR : pb_reg h0 o ci fs as h) (fs' : List pb_V) : pb_reg h0 o ci fs' as (pb_set h o (pb_ob ci fs')) := by
  obtain ⟨h1, h2, h3, h4, h5⟩ := hR
  refine ⟨h1, h2, pb_set_same, fun i c hc => ?_, fun b hb hl => ?_⟩
  · rw [pb_set_ne (by omega)]; exact h4 i c hc
  · rw [pb_set_ne hb]; exact h5 b hb hl
theorem pb_reg.st {h0 h : pb_H} {o ci : Nat} {fs : List pb_V} {as : List pb_C} (hR : pb_reg h0 o ci fs as h) (j : Nat) (x : pb_C) (hj : j < as.length) : pb_reg h0 o ci fs (as.set j x) (pb_set h (h0.1 + j) x) := by
  obtain ⟨h1, h2, h3, h4, h5⟩ := hR
  refine ⟨h1, by rw [List.length_set]; exact h2, ?_, fun i c hc => ?_, fun b hb hl => ?_⟩
  · rw [pb_set_ne (by omega)]; exact h3
  · by_cases e : i = j
    · subst e
      rw [List.getElem?_set_self hj] at hc
      cases hc
      exact pb_set_same
    · rw [List.getElem?_set_ne (Ne.symm e)] at hc
      rw [pb_set_ne (by omega)]
      exact h4 i c hc
  · rw [pb_set_ne (by omega)]; exact h5 b hb hl
section ROWS47
variable {G : pb_G} {M M2 : pb_M} {n C S : Nat} {Q : pb_O → pb_H → Prop} {k u pc : Nat} {L : List (Option pb_V)} {st : List pb_V} {h h0 : pb_H} {o ci : Nat} {fs : List pb_V} {as : List pb_C}
theorem pb_Ex.rNewI {nx tg : Nat} (N j : Nat) {z : Int} (hi : pb_ig (pb_tb M) pc = some (.newarray .int, nx, tg)) (hz : z = (N : Int)) (hN : N ≤ 100000) (hR : pb_reg h0 o ci fs as h) (hj : as.length = j) (hC : k + 1 ≤ C) (hS9 : u + N ≤ S) (kk : ∀ h', pb_reg h0 o ci fs (as ++ [pb_aI 0 N (fun _ => 0)]) h' → pb_Ex G M n C S Q (k + 1) (u + N) nx L (pb_r (h0.1 + j) :: st) h') : pb_Ex G M n C S Q k u pc L (pb_i z :: st) h := by
  refine pb_Ex.newI N hi hz hN hC hS9 ?_
  have := kk _ (hR.nw (pb_aI 0 N (fun _ => 0)))
  rw [hR.2.1, hj]
  exact this
theorem pb_Ex.rNewC {nx tg : Nat} (N j : Nat) {z : Int} (hi : pb_ig (pb_tb M) pc = some (.newarray .char, nx, tg)) (hz : z = (N : Int)) (hN : N ≤ 100000) (hR : pb_reg h0 o ci fs as h) (hj : as.length = j) (hC : k + 1 ≤ C) (hS9 : u + N ≤ S) (kk : ∀ h', pb_reg h0 o ci fs (as ++ [pb_aI 5 N (fun _ => 0)]) h' → pb_Ex G M n C S Q (k + 1) (u + N) nx L (pb_r (h0.1 + j) :: st) h') : pb_Ex G M n C S Q k u pc L (pb_i z :: st) h := by
  refine pb_Ex.newC N hi hz hN hC hS9 ?_
  have := kk _ (hR.nw (pb_aI 5 N (fun _ => 0)))
  rw [hR.2.1, hj]
  exact this
theorem pb_Ex.rPutF {nx tg idx kf : Nat} {v : pb_V} (hi : pb_ig (pb_tb M) pc = some (.putfield idx, nx, tg)) (hF : pb_lk2 (pb_ft M.1) idx = some (ci, kf)) (hR : pb_reg h0 o ci fs as h) (hw : pb_wr (pb_ob ci fs) = true) (hdc : ∀ r, pb_cl[ci]? = some r → (r.2.1 kf).1 = pb_cn M.1) (hnm : M.2.1.name = "<init>") (hv : pb_fit (pb_clty ci kf) v) (kk : ∀ h', pb_reg h0 o ci (fs.set kf v) as h' → pb_Ex G M n C S Q k u nx L st h') : pb_Ex G M n C S Q k u pc L (v :: pb_r o :: st) h :=
  pb_Ex.putfF hi hF hR.2.2.1 (Or.inl hw) hdc hnm hv (kk _ (hR.put _)) (fun e => by subst e; cases hw)
/-- a number is stored in a new array of ints, of chars -/
theorem pb_Ex.rStI {nx tg N : Nat} {z v : Int} {g : Nat → Int} (j i : Nat) (hi : pb_ig (pb_tb M) pc = some (.iastore, nx, tg)) (hR : pb_reg h0 o ci fs as h) (ha : as[j]? = some (pb_aI 0 N g)) (hz : z = (i : Int)) (hN : i < N) (kk : ∀ h', pb_reg h0 o ci fs (as.set j (pb_aI 0 N (va_up g i v))) h' → pb_Ex G M n C S Q k u nx L st h') : pb_Ex G M n C S Q k u pc L (pb_i v :: pb_i z :: pb_r (h0.1 + j) :: st) h := by
  subst hz
  refine pb_Ex.iast hi (hR.2.2.2.1 j _ ha) (by omega) (by omega) ?_
  rw [Int.toNat_natCast]
  exact kk _ (hR.st j _ (List.getElem?_eq_some_iff.mp ha).1)
theorem pb_Ex.rStC {nx tg N : Nat} {z v : Int} {g : Nat → Int} (j i : Nat) (hi : pb_ig (pb_tb M) pc = some (.castore, nx, tg)) (hR : pb_reg h0 o ci fs as h) (ha : as[j]? = some (pb_aI 5 N g)) (hz : z = (i : Int)) (hN : i < N) (hv : 0 ≤ v ∧ v < 65536) (kk : ∀ h', pb_reg h0 o ci fs (as.set j (pb_aI 5 N (va_up g i v))) h' → pb_Ex G M n C S Q k u nx L st h') : pb_Ex G M n C S Q k u pc L (pb_i v :: pb_i z :: pb_r (h0.1 + j) :: st) h := by
  subst hz
  refine pb_Ex.cast hi (hR.2.2.2.1 j _ ha) (by omega) (by omega) hv ?_
  rw [Int.toNat_natCast]
  exact kk _ (hR.st j _ (List.getElem?_eq_some_iff.mp ha).1)
/-- the i-th of a row of numbers that are known -/
theorem pb_Ex.rRowC {nx tg N : Nat} {z v : Int} {g0 f g : Nat → Int} (j i : Nat) (hi : pb_ig (pb_tb M) pc = some (.castore, nx, tg)) (hR : pb_reg h0 o ci fs as h) (ha : as[j]? = some (pb_aI 5 N g0)) (hg : g0 = mo_cp f g i) (hz : z = (i : Int)) (hN : i < N) (hv : v = f i) (hv9 : 0 ≤ v ∧ v < 65536) (kk : ∀ h', pb_reg h0 o ci fs (as.set j (pb_aI 5 N (mo_cp f g (i + 1)))) h' → pb_Ex G M n C S Q k u nx L st h') : pb_Ex G M n C S Q k u pc L (pb_i v :: pb_i z :: pb_r (h0.1 + j) :: st) h := by
  subst hg
  refine pb_Ex.rStC j i hi hR ha hz hN hv9 (fun h' q => ?_)
  rw [hv, mo_cp_s] at q
  exact kk h' q
theorem pb_Ex.rRowI {nx tg N : Nat} {z v : Int} {g0 f g : Nat → Int} (j i : Nat) (hi : pb_ig (pb_tb M) pc = some (.iastore, nx, tg)) (hR : pb_reg h0 o ci fs as h) (ha : as[j]? = some (pb_aI 0 N g0)) (hg : g0 = mo_cp f g i) (hz : z = (i : Int)) (hN : i < N) (hv : v = f i) (kk : ∀ h', pb_reg h0 o ci fs (as.set j (pb_aI 0 N (mo_cp f g (i + 1)))) h' → pb_Ex G M n C S Q k u nx L st h') : pb_Ex G M n C S Q k u pc L (pb_i v :: pb_i z :: pb_r (h0.1 + j) :: st) h := by
  subst hg
  refine pb_Ex.rStI j i hi hR ha hz hN (fun h' q => ?_)
  rw [hv, mo_cp_s] at q
  exact kk h' q
end ROWS47
