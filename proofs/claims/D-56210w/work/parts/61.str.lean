set_option maxRecDepth 100000
/-! STRINGS of letters below 128 -/
/-- a String at a: its n letters s, in the bytes at v -/
def st_W (h : pb_H) (a v n : Nat) (s : Nat → Int) : Prop := h.2 a = some (pb_ob 15 [pb_r v, pb_i 0]) ∧ n ≤ 1000 ∧ ∃ g, h.2 v = some (pb_aI 4 n g) ∧ ∀ j, j < n → g j = s j ∧ 0 ≤ s j ∧ s j < 128
theorem st_W.fr {h h' : pb_H} {a v n : Nat} {s : Nat → Int} {P : Nat → pb_C → Prop} (hW : st_W h a v n s) (hx : fr_P P h h') (h1 : ∀ c, h.2 a = some c → P a c) (h2 : ∀ c, h.2 v = some c → P v c) : st_W h' a v n s := by
  obtain ⟨k1, k2, g, k3, k4⟩ := hW
  exact ⟨hx.2 _ _ k1 (h1 _ k1), k2, g, hx.2 _ _ k3 (h2 _ k3), k4⟩
theorem st_W.x {h h' : pb_H} {a v n : Nat} {s : Nat → Int} (hW : st_W h a v n s) (hx : fr_x h h') : st_W h' a v n s := hW.fr hx (fun _ _ => trivial) (fun _ _ => trivial)
/-- a String constant's letters -/
def co_ch (i : Nat) (j : Nat) : Int := ((co_sl.getD i (0, 0, "", [])).2.2.2).getD j 0
def co_ln (i : Nat) : Nat := ((co_sl.getD i (0, 0, "", [])).2.2.2).length
theorem co_st_W {K : co_K} {h : pb_H} (hK : co_W K h) (i : Nat) (hi : i < 18) : st_W h (co_sa K i) (co_sv K i) (co_ln i) (co_ch i) := by
  obtain ⟨x, hx⟩ : ∃ x, co_sl[i]? = some x := ⟨_, List.getElem?_eq_getElem (show i < co_sl.length from hi)⟩
  obtain ⟨h1, g, h2, h3⟩ := hK.2.2.2 i x hx
  have e : co_sl.getD i (0, 0, "", []) = x := by rw [List.getD_eq_getElem?_getD, hx]; rfl
  have hc : co_sl.all (fun y => Nat.ble y.2.2.2.length 1000 && y.2.2.2.all (fun v => decide (0 ≤ v) && decide (v < 128))) = true := by decide
  have hx2 := List.all_eq_true.mp hc x (List.mem_of_getElem? hx)
  rw [Bool.and_eq_true] at hx2
  refine ⟨h1, by unfold co_ln; rw [e]; exact Nat.le_of_ble_eq_true hx2.1, g, by unfold co_ln; rw [e]; exact h2, fun j hj => ?_⟩
  unfold co_ln at hj
  rw [e] at hj
  have hv : x.2.2.2[j]? = some x.2.2.2[j] := List.getElem?_eq_getElem hj
  have hs : co_ch i j = x.2.2.2[j] := by unfold co_ch; rw [e, List.getD_eq_getElem?_getD, hv]; rfl
  have h5 := List.all_eq_true.mp hx2.2 x.2.2.2[j] (List.getElem_mem hj)
  simp only [Bool.and_eq_true, decide_eq_true_eq] at h5
  rw [hs]
  exact ⟨h3 j _ hv, h5.1, h5.2⟩
section STR
variable {G : pb_G} {K : co_K} {h : pb_H} {a v m : Nat} {s : Nat → Int}
theorem jt_coder (hG : co_G G K) (hW : st_W h a v m s) : pb_Ctr G mJ7_coder 0 0 0 [pb_r a] h (pb_P (some (pb_i 0)) h) := by
  obtain ⟨k1, k2, g, k3, k4⟩ := hW
  refine pb_Ctr.of rfl rfl rfl tJ7_coder_ok rfl ?_
  (try refine pb_Ex.run rfl ?_)
  refine pb_Ex.gets rfl hG.2.1.2.1 q934 ?_
  refine pb_Ex.ifF rfl (by omega) (by first | decide | (simp only [pb_cmp]; omega) | simp [pb_cmp]) ?_
  (try refine pb_Ex.run rfl ?_)
  refine pb_Ex.getf rfl rfl k1 rfl ?_
  (try refine pb_Ex.run rfl ?_)
  exact pb_Ex.zret (ty := .byte) rfl rfl (pb_nby (by omega)).1 (by omega) (by omega) ⟨rfl, rfl⟩
theorem jt_lat (hG : co_G G K) (hW : st_W h a v m s) : pb_Ctr G mJ7_isLatin1 0 0 0 [pb_r a] h (pb_P (some (pb_i 1)) h) := by
  obtain ⟨k1, k2, g, k3, k4⟩ := hW
  refine pb_Ctr.of rfl rfl rfl tJ7_isLatin1_ok rfl ?_
  (try refine pb_Ex.run rfl ?_)
  refine pb_Ex.gets rfl hG.2.1.2.1 q934 ?_
  refine pb_Ex.ifF rfl (by omega) (by first | decide | (simp only [pb_cmp]; omega) | simp [pb_cmp]) ?_
  (try refine pb_Ex.run rfl ?_)
  refine pb_Ex.getf rfl rfl k1 rfl ?_
  (try refine pb_Ex.run rfl ?_)
  refine pb_Ex.ifF rfl (by omega) (by first | decide | (simp only [pb_cmp]; omega) | simp [pb_cmp]) ?_
  (try refine pb_Ex.run rfl ?_)
  refine pb_Ex.zret (ty := .boolean) rfl rfl (pb_nb (Or.inr rfl)).1 (by omega) (by omega) (⟨rfl, rfl⟩)
theorem jt_length (hG : co_G G K) (hW : st_W h a v m s) : pb_Ctr G mJ7_length 1 0 0 [pb_r a] h (pb_P (some (pb_i m)) h) := by
  have hW' := hW
  obtain ⟨k1, k2, g, k3, k4⟩ := hW
  refine pb_Ctr.of rfl rfl rfl tJ7_length_ok rfl ?_
  (try refine pb_Ex.run rfl ?_)
  refine pb_Ex.getf rfl rfl k1 rfl ?_
  (try refine pb_Ex.run rfl ?_)
  refine pb_Ex.alen0 (N := m) (kd := 0) rfl (k3) rfl (by omega) ?_
  (try refine pb_Ex.run rfl ?_)
  refine pb_Ex.pV rfl rfl rfl rfl (k1) rfl rfl (jt_coder hG hW') (by omega) (by omega) (by omega) ?_
  (try refine pb_Ex.run rfl ?_)
  refine pb_Ex.ishr (a := m) (s := 0) rfl (by omega) (by omega) ?_
  rw [show m / 2 ^ 0 = m by omega]
  refine pb_Ex.iret rfl rfl (by omega) (by omega) (⟨rfl, rfl⟩)
theorem jt_chk (hG : co_G G K) (i z : Int) (h0 : 0 ≤ i) (h1 : i < z) (hn : z < 2147483648) : pb_Ctr G mJ7_checkIndex 1 0 0 [pb_i i, pb_i z] h (pb_P none h) := by
  refine pb_Ctr.of rfl rfl rfl tJ7_checkIndex_ok rfl ?_
  (try refine pb_Ex.run rfl ?_)
  refine pb_Ex.gets rfl hG.2.1.2.2.1 q1467 ?_
  refine pb_Ex.pS rfl rfl rfl rfl (ja_chk i z (co_fm K) h0 h1 hn) (by omega) (by omega) (by omega) ?_
  (try refine pb_Ex.run rfl ?_)
  refine pb_Ex.vret rfl rfl (by omega) (by omega) (⟨rfl, rfl⟩)
theorem jt_chAt (hG : co_G G K) {g : Nat → Int} (k3 : h.2 v = some (pb_aI 4 m g)) (hm : m ≤ 1000) (j : Nat) (hj : j < m) (hg : 0 ≤ g j ∧ g j < 128) : pb_Ctr G mJ21_charAt 2 0 0 [pb_r v, pb_i j] h (pb_P (some (pb_i (g j))) h) := by
  refine pb_Ctr.of rfl rfl rfl tJ21_charAt_ok rfl ?_
  (try refine pb_Ex.run rfl ?_)
  refine pb_Ex.alen0 (N := m) (kd := 0) rfl (k3) rfl (by omega) ?_
  (try refine pb_Ex.run rfl ?_)
  refine pb_Ex.pS rfl rfl rfl rfl (jt_chk hG j m (by omega) (by omega) (by omega)) (by omega) (by omega) (by omega) ?_
  (try refine pb_Ex.run rfl ?_)
  refine pb_Ex.bat j rfl k3 rfl hj ?_
  refine pb_Ex.run rfl ?_
  refine pb_Ex.iandM 8 rfl (by omega) rfl ?_
  refine pb_Ex.run rfl ?_
  have e : g j % ((2 ^ 8 : Nat) : Int) % 65536 = g j := by omega
  rw [e]
  exact pb_Ex.zret (ty := .char) rfl rfl (pb_nch (by omega)).1 (by omega) (by omega) ⟨rfl, rfl⟩
theorem jt_charAt (hG : co_G G K) (hW : st_W h a v m s) (j : Nat) (hj : j < m) : pb_Ctr G mJ7_charAt 3 0 0 [pb_r a, pb_i j] h (pb_P (some (pb_i (s j))) h) := by
  have hW' := hW
  obtain ⟨k1, k2, g, k3, k4⟩ := hW
  have k5 := k4 j hj
  refine pb_Ctr.of rfl rfl rfl tJ7_charAt_ok rfl ?_
  (try refine pb_Ex.run rfl ?_)
  refine pb_Ex.pV rfl rfl rfl rfl (k1) rfl rfl (jt_lat hG hW') (by omega) (by omega) (by omega) ?_
  (try refine pb_Ex.run rfl ?_)
  refine pb_Ex.ifF rfl (by omega) (by first | decide | (simp only [pb_cmp]; omega) | simp [pb_cmp]) ?_
  (try refine pb_Ex.run rfl ?_)
  refine pb_Ex.getf rfl rfl k1 rfl ?_
  (try refine pb_Ex.run rfl ?_)
  refine pb_Ex.pS rfl rfl rfl rfl (jt_chAt hG k3 k2 j hj (by omega)) (by omega) (by omega) (by omega) ?_
  (try refine pb_Ex.run rfl ?_)
  rw [k5.1]
  exact pb_Ex.zret (ty := .char) rfl rfl (pb_nch (by omega)).1 (by omega) (by omega) ⟨rfl, rfl⟩
end STR
