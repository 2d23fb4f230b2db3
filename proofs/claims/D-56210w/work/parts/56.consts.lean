set_option maxRecDepth 100000
/-! THE START'S CONSTANTS: the class State's, ArrayList's empty array, Integer's digits, Strings -/
section ROWS56
variable {G : pb_G} {M M2 : pb_M} {n C S n2 C2 S2 : Nat} {Q Q2 : pb_O → pb_H → Prop} {k u pc : Nat} {L : List (Option pb_V)} {st a rest : List pb_V} {h : pb_H}
theorem pb_Ex.i2b {nx tg : Nat} {z : Int} (hi : pb_ig (pb_tb M) pc = some (.i2b, nx, tg)) (hz : -128 ≤ z ∧ z < 128) (kk : pb_Ex G M n C S Q k u nx L (pb_i z :: st) h) : pb_Ex G M n C S Q k u pc L (pb_i z :: st) h := by
  intro p e R s m args below meth c X H locs ls hR hO hL hl hn
  have X' := X
  obtain ⟨hx, hb, -, -, -, -, -, -, -, -, -, -, hT, -⟩ := X
  obtain ⟨hd, rfl, hj⟩ := pb_ig_ok hT hi rfl
  have e1 := (pb_nby hz).1
  exact lv_i2b hx hb hd (Value.int.inj e1) (kk p e R s m args below meth c X' H locs ls hR hO hL hl hn)
/-- a byte array's clone -/
theorem pb_Ex.cloneB {nx tg b N : Nat} {g : Nat → Int} (ho : Nat.beq M.1 33 = true) (hi : pb_ig (pb_tb M) pc = some (.invokevirtual 310, nx, tg)) (hb9 : h.2 b = some (pb_aI 4 N g)) (hg : ∀ j, j < N → -128 ≤ g j ∧ g j < 128) (hsm : pb_sm st = true) (hr : 1 ≤ n) (hC : k + 1 ≤ C) (hS9 : u + N ≤ S) (kk : pb_b G ≤ h.1 → pb_Ex G M n C S Q (k + 1) (u + N) nx L (pb_r h.1 :: st) (pb_new h (pb_aI 4 N g))) : pb_Ex G M n C S Q k u pc L (pb_r b :: st) h := by
  intro p e R s m args below meth c X H locs ls hR hO hL hl9 hn
  have X' := X
  obtain ⟨hx, hb, hml, hrt, hlk, hnm, hown, hts, hHT, hSF, hAl, hRm, hT, hsz⟩ := X
  obtain ⟨hd, rfl, hj⟩ := pb_ig_ok hT hi rfl
  rw [Nat.eq_of_beq_eq_true ho] at hown
  obtain ⟨⟨hk0, hN, hcell⟩, -⟩ := hR.2.2 b _ hb9
  have hs9 := pb_sm_ok hsm
  obtain ⟨-, kS, hkS, compS, hkindS⟩ := pb_arrT hSF hAl 4 (by omega) 0 (fun _ => .null)
  have hnmB : s.vm.findClass "[B" = some (G.2.2.2 4) := pb_raT hSF hAl 4 (by omega)
  obtain ⟨c0, t0', f1, f2, f3⟩ := Cond.castable_spec (pb_cstb (args := args) hSF hAl q1441)
  have hc0 : c0 = G.2.2.2 4 := Option.some.inj (f1.symm.trans hnmB)
  subst hc0
  intro T hT9 Xs
  obtain ⟨-, kA, hkA, comp, hkind⟩ := State.isArrayOf_alike Xs.warmed.alike (pb_arrT hSF hAl 4 (by omega) 0 (fun _ => .null))
  obtain ⟨cell, hcd⟩ : ∃ cell, cell = arrV (G.2.2.2 4) N (fun j => Value.int (pb_I (g j))) := ⟨_, rfl⟩
  have hvm0 : cell.vm = .none := by rw [hcd]; rfl
  have hcl0 : cell.cls = G.2.2.2 4 := by rw [hcd]; rfl
  have hz0 : cell.slots.size = N := by rw [hcd]; exact arrV_size _ _ _
  have hcellE : ({ cls := cell.cls, slots := cell.slots } : Cell) = cell := by rw [hcd]; rfl
  have hcellT : T.heap[b]? = some cell := by rw [hT9, hcd]; exact hcell
  obtain ⟨vm', Xn, stp⟩ := Xs.cloneArray hx hown (hts _ q1436) (hts _ q1437) (hts _ q1438) (hts _ q1439) (hts _ q1440) (a := b) (cell := cell) hcellT (fun k h => by rw [hvm0] at h; cases h) (by rw [hvm0]; exact fun h => by cases h) (by rw [hcl0]; exact hnmB) f2 (by rw [hcl0]; exact f3)
    (fun i v hv => by
      have hi9 : i < N := by rw [← hz0]; exact (Array.getElem?_eq_some_iff.mp hv).1
      rw [hcd, arrV_read _ _ hi9] at hv
      cases hv
      rw [hcl0]
      have hk' : T.vm.classes[G.2.2.2 4]? = some kA := hkA
      have hft : fits .byte (.int (pb_I (g i))) = true := (pb_nby (hg i hi9)).2
      have hkind' : kA.kind = .array comp .byte := hkind
      simpa [State.fitsSlot, State.slotType?, hk', hkind'] using hft)
    (g := F0 m pc ls (.ref b :: st.map pb_cv)) rfl (by rw [hml]; exact hl9.1) rfl (by rw [hb]; exact hd) (by omega) (by show 2 * 0 + _ + 14 ≤ _; omega) (Nat.le_trans hC hRm.2.2.1) (by rw [hz0]; exact Nat.le_trans hS9 hRm.2.2.2) (hloader := by rw [hcl0]; exact Vm.clonesLoader_of_array hkS hkindS)
  rw [hcellE, hz0] at Xn
  have z1 : (H.push cell).size = H.size + 1 := Array.size_push _
  have e1 : (H.push cell)[H.size]? = some (arrV (G.2.2.2 4) N (fun j => Value.int (pb_I (g j)))) := by rw [Array.getElem?_push_size, ← hcd]
  have o1 : ∀ q : Nat, q < H.size → (H.push cell)[q]? = H[q]? := fun q hq => by rw [Array.getElem?_push, if_neg (Nat.ne_of_lt hq)]
  have hR1 : pb_Rep G (pb_new h (pb_aI 4 N g)) (H.push cell) := hR.push (by rw [← hR.1]; exact ⟨Or.inr (Or.inr (Or.inl rfl)), hN, e1⟩) z1 o1
  obtain ⟨t, b1, b2⟩ := kk hR.2.1 p e R s m args below meth c X' (H.push cell) locs ls hR1 (hO.push hR o1) hL hl9 hn ((T.setVm vm').pushCell cell) (by rw [← hT9]; rfl) Xn
  refine ⟨t, stp t ?_, b2⟩
  rw [hcellE, hT9, hR.1]
  exact b1
/-- a field of an object that stood at the start -/
theorem pb_Ex.getO {nx tg idx q : Nat} {o nm d ref : String} {v : pb_V} (hi : pb_ig (pb_tb M) pc = some (.getfield idx, nx, tg)) (hE : va_OF o nm d (pb_cv v) q (fun _ => False) G.2.1 G.2.1.heap) (hc : Cond.fieldLink (pb_cn M.1) idx ref nm d ∈ lw_all) (hs : ref = o) (kk : pb_Ex G M n C S Q k u nx L (v :: st) h) : pb_Ex G M n C S Q k u pc L (pb_r q :: st) h := by
  intro p e R s m args below meth c X H locs ls hR hO hL hl hn
  have X' := X
  obtain ⟨hx, hb, hml, hrt, hlk, hnm, hown, hts, hHT, hSF, hAl, hRm, hT, hsz⟩ := X
  obtain ⟨hd, rfl, hj⟩ := pb_ig_ok hT hi rfl
  obtain ⟨cf, k9, fi, f, cell, h1, h2, h3, h4, h5, h6⟩ := va_OF.moved hAl (va_OF.kept hE (fun a ha _ => hO a ha))
  subst hs
  exact W.getf hx hb hown (hts _ hc) h1 h2 h3 h4 (v := pb_cv v) h5 rfl rfl hd (kk p e R s m args below meth c X' H locs ls hR hO hL hl hn)
end ROWS56
/-- addresses: the empty array, the State constants, the digits (ones, tens), the formatter, Object[]'s class, Strings and their bytes; where the component's arrays of numbers may lie -/
abbrev co_K : Type := Nat × (Nat → Nat) × Nat × Nat × Option Nat × Nat × (Nat → Nat) × (Nat → Nat) × (Nat → Prop)
abbrev co_E (K : co_K) : Nat := K.1
abbrev co_st (K : co_K) : Nat → Nat := K.2.1
abbrev co_one (K : co_K) : Nat := K.2.2.1
abbrev co_ten (K : co_K) : Nat := K.2.2.2.1
abbrev co_fm (K : co_K) : Option Nat := K.2.2.2.2.1
abbrev co_mi (K : co_K) : Nat := K.2.2.2.2.2.1
abbrev co_sa (K : co_K) : Nat → Nat := K.2.2.2.2.2.2.1
abbrev co_sv (K : co_K) : Nat → Nat := K.2.2.2.2.2.2.2.1
abbrev co_D (K : co_K) : Nat → Prop := K.2.2.2.2.2.2.2.2
/-- the Strings: class, entry, text, letters -/
def co_sl : List (Nat × Nat × String × List Int) := [(1, 59, "", []), (8, 26, "|", [124]), (12, 46, "h", [104]), (12, 50, "ours ", [111, 117, 114, 115, 32]), (12, 59, "ull", [117, 108, 108]), (12, 61, "ca", [99, 97]), (12, 63, "ulk ", [117, 108, 107, 32]), (12, 65, " ", [32]), (12, 67, "rgo ", [114, 103, 111, 32]), (12, 73, "frame ", [102, 114, 97, 109, 101, 32]), (12, 75, "/", [47]), (12, 77, "mirror ", [109, 105, 114, 114, 111, 114, 32]), (12, 82, "launch ", [108, 97, 117, 110, 99, 104, 32]), (12, 84, "pump ", [112, 117, 109, 112, 32]), (12, 86, "tide ", [116, 105, 100, 101, 32]), (12, 88, "order ", [111, 114, 100, 101, 114, 32]), (12, 90, "deliver ", [100, 101, 108, 105, 118, 101, 114, 32]), (12, 102, ";", [59])]
/-- the State constants' names, classes, letters -/
def co_nm (i : Nat) : String := match i with
  | 0 => "BUILT"
  | 1 => "AFLOAT"
  | 2 => "DELIVERED"
  | _ => "SUNK"
def co_cn (i : Nat) : String := match i with
  | 0 => "PuddleBoatyard$State$1"
  | 1 => "PuddleBoatyard$State$2"
  | 2 => "PuddleBoatyard$State$3"
  | _ => "PuddleBoatyard$State$4"
def co_lt (i : Nat) : Int := match i with
  | 0 => 98
  | 1 => 97
  | 2 => 100
  | _ => 115
/-- what is said of the start -/
def co_G (G : pb_G) (K : co_K) : Prop :=
  (co_E K < pb_b G ∧ co_one K < pb_b G ∧ co_ten K < pb_b G ∧ (∀ i, i < 18 → co_sa K i < pb_b G ∧ co_sv K i < pb_b G)) ∧
  (pb_stc G "java/util/ArrayList" "DEFAULTCAPACITY_EMPTY_ELEMENTDATA" "[Ljava/lang/Object;" (pb_r (co_E K)) ∧ pb_stc G "java/lang/String" "COMPACT_STRINGS" "Z" (pb_i 1) ∧ pb_stc G "jdk/internal/util/Preconditions" "SIOOBE_FORMATTER" "Ljava/util/function/BiFunction;" (pb_q (co_fm K)) ∧ pb_stc G "java/lang/Integer" "DigitOnes" "[B" (pb_r (co_one K)) ∧ pb_stc G "java/lang/Integer" "DigitTens" "[B" (pb_r (co_ten K))) ∧
  pb_thS G ∧ va_Mi "[Ljava/lang/Object;" (co_mi K) G.2.1 ∧
  (∀ i, i < 4 → pb_stc G "PuddleBoatyard$State" (co_nm i) "LPuddleBoatyard$State;" (pb_r (co_st K i)) ∧ va_O (co_cn i) (co_st K i) (fun _ => False) G.2.1 G.2.1.heap ∧ va_OF "java/lang/Enum" "ordinal" "I" (pb_cv (pb_i i)) (co_st K i) (fun _ => False) G.2.1 G.2.1.heap ∧ va_OF "PuddleBoatyard$State" "letter" "C" (pb_cv (pb_i (co_lt i))) (co_st K i) (fun _ => False) G.2.1 G.2.1.heap) ∧
  (∀ i j, i < 4 → j < 4 → co_st K i = co_st K j → i = j) ∧
  (∀ i x, co_sl[i]? = some x → pb_str G (pb_cn x.1) x.2.1 x.2.2.1 (co_sa K i))
/-- what is said of the world -/
def co_W (K : co_K) (h : pb_H) : Prop :=
  (∃ g, h.2 (co_E K) = some (pb_aR 0 g)) ∧ (∃ g, h.2 (co_one K) = some (pb_aI 4 100 g) ∧ ∀ j : Nat, j < 100 → g j = 48 + (j % 10 : Nat)) ∧ (∃ g, h.2 (co_ten K) = some (pb_aI 4 100 g) ∧ ∀ j : Nat, j < 100 → g j = 48 + (j / 10 : Nat)) ∧
  (∀ i x, co_sl[i]? = some x → h.2 (co_sa K i) = some (pb_ob 15 [pb_r (co_sv K i), pb_i 0]) ∧ ∃ g, h.2 (co_sv K i) = some (pb_aI 4 x.2.2.2.length g) ∧ ∀ (j : Nat) (v : Int), x.2.2.2[j]? = some v → g j = v)
theorem co_rc {G : pb_G} {K : co_K} {h : pb_H} (hG : co_G G K) {i : Nat} (hi : i < 4) : pb_rc G h (co_cn i) (co_st K i) := by
  intro s H hSF hAl hR hO
  obtain ⟨cell, h1, h2, h3, -⟩ := va_O.moved hAl (va_O.kept (hG.2.2.2.2.1 i hi).2.1 (fun a ha _ => hO a ha))
  exact ⟨cell, h1, h2, h3⟩
