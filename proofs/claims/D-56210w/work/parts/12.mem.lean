set_option maxRecDepth 100000
/-- a field's link: the class own's entry idx is field k of the class with number ci -/
def pb_FLD (own : String) (idx ci k : Nat) : Prop := ∃ (C ref : String) (T : u_T) (N : Nat), pb_cl[ci]? = some (C, T, N) ∧ k < N ∧ Cond.fieldLink own idx ref (T k).2.1 (T k).2.2.1 ∈ lw_all ∧ (ref = (T k).1 ∨ Cond.sameField ref (T k).1 (T k).2.1 (T k).2.2.1 ∈ lw_all)
/-- a value that a field of this type takes -/
def pb_fit (ty : FieldType) (v : pb_V) : Prop := match ty, v with
  | .int, .inl _ => True
  | .boolean, .inl z => z = 0 ∨ z = 1
  | .byte, .inl z => -128 ≤ z ∧ z < 128
  | .char, .inl z => 0 ≤ z ∧ z < 65536
  | .long, .inr (.inl _) => True
  | .object _, .inr (.inr (.inr _)) => True
  | .array _, .inr (.inr (.inr _)) => True
  | _, _ => False
theorem pb_nb {z : Int} (h : z = 0 ∨ z = 1) : narrow .boolean (.int (pb_I z)) = .int (pb_I z) ∧ fits .boolean (.int (pb_I z)) = true := by
  rcases h with rfl | rfl
  · exact ⟨rfl, rfl⟩
  · exact ⟨rfl, rfl⟩
theorem pb_nby {z : Int} (h : -128 ≤ z ∧ z < 128) : narrow .byte (.int (pb_I z)) = .int (pb_I z) ∧ fits .byte (.int (pb_I z)) = true := by
  have e : (pb_I z).toInt8.toInt32 = pb_I z := by
    rw [← Int32.toInt_inj, Int8.toInt_toInt32, pb_I_toInt ⟨by omega, by omega⟩]
    have h1 : (pb_I z).toInt8 = Int8.ofInt z := by
      unfold pb_I
      rw [Int32.toInt8_ofInt]
    rw [h1, Int8.toInt_ofInt_of_le (by omega) (by omega)]
  constructor
  · show Value.int (pb_I z).toInt8.toInt32 = _
    rw [e]
  · rw [← e]
    exact pk_fb _
theorem pb_nch {z : Int} (h : 0 ≤ z ∧ z < 65536) : narrow .char (.int (pb_I z)) = .int (pb_I z) ∧ fits .char (.int (pb_I z)) = true := by
  have e : ((pb_I z).toUInt32 % 65536).toInt32 = pb_I z := by
    rw [pb_char, Int.emod_eq_of_lt h.1 h.2]
  rw [← e]
  exact ⟨pk_nc _, pk_fc _⟩
theorem pb_fit_ok {ty : FieldType} {v : pb_V} (h : pb_fit ty v) : narrow ty (pb_cv v) = pb_cv v ∧ fits ty (pb_cv v) = true := by
  rcases v with z | z | x | r
  · cases ty <;> first | exact h.elim | exact ⟨rfl, rfl⟩ | exact pb_nb h | exact pb_nby h | exact pb_nch h
  · cases ty <;> first | exact h.elim | exact ⟨rfl, rfl⟩
  · cases ty <;> exact h.elim
  · cases ty <;> first | exact h.elim | (cases r <;> exact ⟨rfl, rfl⟩)
theorem pb_list_vp (fs : List pb_V) (k : Nat) (v : pb_V) (h : fs[k]? = some v) : vp_V (fs.map pb_cv) k = pb_cv v := by
  simp [vp_V, h]
section ROWS
variable {G : pb_G} {M : pb_M} {n C S : Nat} {Q : pb_O → pb_H → Prop} {k u pc : Nat} {L : List (Option pb_V)} {st : List pb_V} {h : pb_H}
theorem pb_Ex.aret {nx tg : Nat} {r : Option Nat} {rt : FieldType} (hi : pb_ig (pb_tb M) pc = some (.areturn, nx, tg)) (hret : M.2.2.2.2.1 = some rt) (hrt2 : (∃ n, rt = .object n) ∨ ∃ t, rt = .array t) (hk : k ≤ C) (hu : u ≤ S) (hq : Q (.inl (some (.inr (.inr (.inr r))))) h) : pb_Ex G M n C S Q k u pc L [.inr (.inr (.inr r))] h := by
  intro p e R s m args below meth c X H locs ls hR hO hL hl hn
  obtain ⟨hx, hb, hml, hrt, hlk, hnm, hown, hts, hHT, hSF, hAl, hRm, hT, hsz⟩ := X
  obtain ⟨hd, rfl, hj⟩ := pb_ig_ok hT hi rfl
  refine vx_ret (W.widen hk hu ?_)
  exact W.aret (v := va_rf r) hx hb (hrt.trans hret) hrt2 (by cases r with | none => exact Or.inl rfl | some a => exact Or.inr ⟨a, rfl⟩) (fun t ht hW => ⟨some (.inr (.inr (.inr r))), h, rfl, hq, by rw [ht]; exact hR, by rw [ht]; exact hO⟩) hL hd
theorem pb_Ex.lret {nx tg : Nat} {z : Int} (hi : pb_ig (pb_tb M) pc = some (.lreturn, nx, tg)) (hret : M.2.2.2.2.1 = some .long) (hk : k ≤ C) (hu : u ≤ S) (hq : Q (.inl (some (.inr (.inl z)))) h) : pb_Ex G M n C S Q k u pc L [.inr (.inl z)] h := by
  intro p e R s m args below meth c X H locs ls hR hO hL hl hn
  obtain ⟨hx, hb, hml, hrt, hlk, hnm, hown, hts, hHT, hSF, hAl, hRm, hT, hsz⟩ := X
  obtain ⟨hd, rfl, hj⟩ := pb_ig_ok hT hi rfl
  refine vx_ret (W.widen hk hu ?_)
  exact W.lret (v := pb_J z) hx hb (hrt.trans hret) (fun t ht hW => ⟨some (.inr (.inl z)), h, rfl, hq, by rw [ht]; exact hR, by rw [ht]; exact hO⟩) hL hd
theorem pb_Ex.dret {nx tg : Nat} {z : UInt64} (hi : pb_ig (pb_tb M) pc = some (.dreturn, nx, tg)) (hret : M.2.2.2.2.1 = some .double) (hk : k ≤ C) (hu : u ≤ S) (hq : Q (.inl (some (.inr (.inr (.inl z))))) h) : pb_Ex G M n C S Q k u pc L [.inr (.inr (.inl z))] h := by
  intro p e R s m args below meth c X H locs ls hR hO hL hl hn
  obtain ⟨hx, hb, hml, hrt, hlk, hnm, hown, hts, hHT, hSF, hAl, hRm, hT, hsz⟩ := X
  obtain ⟨hd, rfl, hj⟩ := pb_ig_ok hT hi rfl
  refine vx_ret (W.widen hk hu ?_)
  exact W.dret (v := z) hx hb (hrt.trans hret) (fun t ht hW => ⟨some (.inr (.inr (.inl z))), h, rfl, hq, by rw [ht]; exact hR, by rw [ht]; exact hO⟩) hL hd (hlocks := hlk)
/-! FIELDS -/
theorem pb_Ex.getf0 {nx tg idx ci kf a : Nat} {fs : List pb_V} {v : pb_V} (hi : pb_ig (pb_tb M) pc = some (.getfield idx, nx, tg)) (hF : pb_FLD (pb_cn M.1) idx ci kf) (ha : h.2 a = some (pb_ob ci fs)) (hv : fs[kf]? = some v) (kk : pb_Ex G M n C S Q k u nx L (v :: st) h) : pb_Ex G M n C S Q k u pc L (pb_r a :: st) h := by
  intro p e R s m args below meth c X H locs ls hR hO hL hl hn
  have X' := X
  obtain ⟨hx, hb, hml, hrt, hlk, hnm, hown, hts, hHT, hSF, hAl, hRm, hT, hsz⟩ := X
  obtain ⟨hd, rfl, hj⟩ := pb_ig_ok hT hi rfl
  obtain ⟨C0, ref, T, N, hc, hkN, hlink, hsame⟩ := hF
  obtain ⟨hcz, -⟩ := hR.2.2 a _ ha
  obtain ⟨r, h1, h2, h3⟩ := hcz
  have hr : r = (C0, T, N) := Option.some.inj (h1.symm.trans hc)
  subst hr
  have hK : va_K G.2.2.1 pb_cl [] s := va_K.moved hAl hSF.1
  obtain ⟨cell, q1, q2, q3, q4⟩ := h3
  obtain ⟨hS, hfc, kC, hkC, hkind⟩ := hK.1 ci _ hc
  obtain ⟨cf, kf9, fi, f, hi9, hsl⟩ := hS kf hkN
  have hk2 : kf < pb_oN ci N := by
    have h9 := (List.getElem?_eq_some_iff.mp hv).1
    rw [h2.1] at h9
    exact h9
  have hsame' : s.fieldFound? ref (T kf).2.1 (T kf).2.2.1 = some (cf, kf9, fi, f) := by
    rcases hsame with e1 | e1
    · rw [e1]; exact hi9
    · exact u_same (hts _ e1) _ hi9
  refine W.getf hx hb hown (hts _ hlink) hsame' (u_facts hfc hkC (u_lays hts (pb_cl_ok ci _ hc).1 hkN) hi9).1 q1 (by rw [q3]; exact fun h9 => by cases h9) (v := pb_cv v) ?_ rfl rfl hd (kk p e R s m args below meth c X' H locs ls hR hO hL hl hn)
  rw [hsl, q4 kf hk2]
  simp [vp_V, hv]
theorem pb_Ex.putf0 {nx tg idx ci kf a : Nat} {fs : List pb_V} {v : pb_V} (hi : pb_ig (pb_tb M) pc = some (.putfield idx, nx, tg)) (hF : pb_FLD (pb_cn M.1) idx ci kf) (ha : h.2 a = some (pb_ob ci fs)) (hw : pb_wr (pb_ob ci fs) = true ∨ pb_b G ≤ a) (hfin : ∀ r, pb_cl[ci]? = some r → (r.2.1 kf).2.2.2 = false ∨ ((r.2.1 kf).1 = pb_cn M.1 ∧ M.2.1.name = "<init>")) (hv : pb_fit (pb_clty ci kf) v) (hk9 : ci = 15 → kf < 2) (kk : pb_Ex G M n C S Q k u nx L st (pb_set h a (pb_ob ci (fs.set kf v)))) : pb_Ex G M n C S Q k u pc L (v :: pb_r a :: st) h := by
  intro p e R s m args below meth c X H locs ls hR hO hL hl hn
  have X' := X
  obtain ⟨hx, hb, hml, hrt, hlk, hnm, hown, hts, hHT, hSF, hAl, hRm, hT, hsz⟩ := X
  obtain ⟨hd, rfl, hj⟩ := pb_ig_ok hT hi rfl
  obtain ⟨C0, ref, T, N, hc, hkN, hlink, hsame⟩ := hF
  obtain ⟨hcz, hwr⟩ := hR.2.2 a _ ha
  have hab : pb_b G ≤ a := hw.elim hwr id
  obtain ⟨r, h1, h2, h3⟩ := hcz
  have hr : r = (C0, T, N) := Option.some.inj (h1.symm.trans hc)
  subst hr
  obtain ⟨c1, c2, c3, -, -⟩ := pb_cl_ok ci _ hc
  have hK : va_K G.2.2.1 pb_cl [] s := va_K.moved hAl hSF.1
  have hsame' : ∀ x, s.fieldFound? (T kf).1 (T kf).2.1 (T kf).2.2.1 = some x → s.fieldFound? ref (T kf).2.1 (T kf).2.2.1 = some x := fun x hx9 => by
    rcases hsame with e1 | e1
    · rw [e1]; exact hx9
    · exact u_same (hts _ e1) x hx9
  obtain ⟨hn1, hf1⟩ := pb_fit_ok hv
  have hd9 : parseFieldDescriptor (T kf).2.2.1 = some (pb_clty ci kf) := c2 kf hkN
  have hap := va_apart (own := pb_cn M.1) (D := G.2.2.1) (cl := pb_cl) (tys := []) (ci := ci) hts c1 (pb_clty ci) c2 c3 hK hc
  obtain ⟨cell, q1, q2, q3, q4⟩ := h3
  obtain ⟨hS, hfc, kC, hkC, hkind⟩ := hK.1 ci _ hc
  obtain ⟨cf, kf9, fi, f, hi9, hsl⟩ := hS kf hkN
  have hst := (u_facts hfc hkC (u_lays hts c1 hkN) hi9).1
  have hk2 : kf < pb_oN ci N := by
    by_cases e9 : ci = 15
    · have := hk9 e9
      subst e9
      exact this
    · rw [pb_oN_ne e9]; exact hkN
  have hap2 : ∀ a b, a < pb_oN ci N → b < pb_oN ci N → a ≠ b → G.2.2.1.2 ci a ≠ G.2.2.1.2 ci b := fun a b ha hb => hap a b (Nat.lt_of_lt_of_le ha (pb_oN_le hc)) (Nat.lt_of_lt_of_le hb (pb_oN_le hc))
  have hlen : kf < (fs.map pb_cv).length := by rw [List.length_map, h2.1]; exact hk2
  have fin : ∀ H' : Heap, H'[a]? = some (cell.setSlot f.slot (pb_cv v)) → H'.size = H.size → (∀ q, q ≠ a → H'[q]? = H[q]?) → W p G.1 e R s m args below meth c H' (locs ++ [⟨a, f.slot⟩]) k u (vx_MQ below (pb_Qc G Q) (pb_XC G Q) args s C S (fun q => pb_b G ≤ q)) { F0 m pc ls ((v :: pb_r a :: st).map pb_cv) with pc := pc + 3, stack := st.map pb_cv } := by
    intro H' e1 e2 e3
    rw [hsl] at e1
    have hmon : pb_mon ci a H' := by
      rcases h2.2 with h9 | ⟨cell9, h9, h10⟩
      · exact Or.inl h9
      · cases Option.some.inj (h9.symm.trans q1)
        exact Or.inr ⟨_, e1, h10⟩
    refine kk p e R s m args below meth c X' H' _ ls (hR.set ⟨_, hc, ⟨by rw [List.length_set]; exact h2.1, hmon⟩, ?_⟩ hab e2 e3) (hO.set hab e3) (fun z hz => ?_) hl hn
    · rw [List.map_set]
      exact t_OB.to (V := updV (vp_V (fs.map pb_cv)) kf (pb_cv v)) ⟨_, e1, q2, q3, t_set q4 hap2 hk2 (pb_cv v)⟩ (fun j _ => vp_updV_set hlen (pb_cv v) j)
    · rcases List.mem_append.mp hz with h9 | h9
      · exact hL z h9
      · rw [List.mem_singleton.mp h9]; exact hab
  by_cases hfi : (T kf).2.2.2 = true
  · have hfin : (T kf).1 = pb_cn M.1 ∧ M.2.1.name = "<init>" := by
      rcases hfin _ hc with h9 | h9
      · have h9 : (T kf).2.2.2 = false := h9
        rw [hfi] at h9; cases h9
      · exact h9
    have hlay := hts _ (c1 _ (u_in_lay (C := C0) (T := T) hkN))
    unfold u_lay at hlay
    rw [if_pos hfi] at hlay
    have hcf : m.cls = cf := by
      obtain ⟨_, _, c', _, _, _, -, -, hf', -, -, -, hown2, -⟩ := Cond.laysFinal_spec hlay
      have e1 : c' = cf := by have := hi9.symm.trans hf'; simp at this; exact this.1.symm
      rw [hfin.1] at hown2
      rw [← e1]; exact Option.some.inj (hown.symm.trans hown2)
    have h6 := u_fits hfc hkC hkind (Or.inr hlay) hi9 hd9 hn1 hf1
    exact W.putFinK hx hb hown (hts _ hlink) (hsame' _ hi9) hst hcf (hnm.trans hfin.2) (by rw [q2]; exact h6) q1 q3 (by rw [hsl]; exact k2_hasslot (q4 kf hk2)) rfl rfl hd fin
  · have hlay := hts _ (c1 _ (u_in_lay (C := C0) (T := T) hkN))
    unfold u_lay at hlay
    rw [if_neg hfi] at hlay
    have h6 := u_store hfc hkC hkind hlay hi9 hd9 hn1 hf1
    exact W.putK hx hb (f := f) ⟨hown, hts _ hlink, ⟨_, _, _, hsame' _ hi9⟩, hst⟩ (by rw [q2]; exact h6) q1 q3 (by rw [hsl]; exact k2_hasslot (q4 kf hk2)) rfl rfl hd fin
/-- new: a blank object at the heap's end -/
def pb_dv (ty : FieldType) : pb_V := match ty with
  | .long => .inr (.inl 0)
  | .double => .inr (.inr (.inl 0))
  | .object _ => .inr (.inr (.inr none))
  | .array _ => .inr (.inr (.inr none))
  | _ => .inl 0
theorem pb_dv_ok {ty : FieldType} (h : ty ≠ .float) : defaultValue ty = pb_cv (pb_dv ty) := by
  cases ty <;> first | rfl | exact absurd rfl h
theorem pb_Ex.new0 {nx tg idx ci N : Nat} {C0 : String} {T : u_T} {fs : List pb_V} (hi : pb_ig (pb_tb M) pc = some (.new idx, nx, tg)) (hc : pb_cl[ci]? = some (C0, T, N)) (hlink : Cond.classLink (pb_cn M.1) idx C0 ∈ lw_all) (hlen : fs.length = pb_oN ci N) (hfs : ∀ j, j < pb_oN ci N → defaultValue (pb_clty ci j) = vp_V (fs.map pb_cv) j) (hC : k + 1 ≤ C) (hS9 : u + N ≤ S) (kk : pb_Ex G M n C S Q (k + 1) (u + N) nx L (pb_r h.1 :: st) (pb_new h (pb_ob ci fs))) : pb_Ex G M n C S Q k u pc L st h := by
  intro p e R s m args below meth c X H locs ls hR hO hL hl hn
  have X' := X
  obtain ⟨hx, hb, hml, hrt, hlk, hnm, hown, hts, hHT, hSF, hAl, hRm, hT, hsz⟩ := X
  obtain ⟨hd, rfl, hj⟩ := pb_ig_ok hT hi rfl
  obtain ⟨c1, c2, c3, c4, c5⟩ := pb_cl_ok ci _ hc
  have hK : va_K G.2.2.1 pb_cl [] s := va_K.moved hAl hSF.1
  have hKn := hK.1 ci _ hc
  refine W.newcK hx hb hown (hts _ hlink) (hts _ c4) (hts _ c5) rfl hd (Nat.le_trans hC hRm.2.2.1) (Nat.le_trans hS9 hRm.2.2.2) hKn.2.1 hR.1 fun H1 kC hkC e1 z1 o1 => ?_
  rw [← hR.1] at z1 o1
  exact kk p e R s m args below meth c X' H1 locs ls (hR.push ⟨_, hc, ⟨hlen, Or.inr ⟨_, e1, rfl, rfl⟩⟩, (pb_OBle (u_born (pb_clty ci) hts c1 hKn hkC e1 c2) (pb_oN_le hc)).to hfs⟩ z1 o1) (hO.push hR o1) hL hl hn
/-! ARRAYS -/
theorem pb_arr {U : State} {cA : ClassId} {ty : FieldType} (h : ArrOfT U cA ty) (N : Nat) (f : Nat → Value) : U.isArrayOf (arrV cA N f) ty := h N f
theorem pb_arrT {G : pb_G} {s : State} (hSF : pb_SF G) (hAl : G.2.1.vm.Alike s.vm) (k : Nat) (hk : k < 7) : ArrOfT s (G.2.2.2 k) (pb_ty k) := arrOfT_moved hAl (hSF.2.1 k hk).1
theorem pb_inA {N : Nat} {cA : ClassId} {f : Nat → Value} {z : Int} (h0 : 0 ≤ z) (h1 : z < N) (hN : N < 2147483648) : ¬ (pb_I z < 0 ∨ (arrV cA N f).slots.size ≤ (pb_I z).toNatClampNeg) := by
  rw [arrV_size]
  exact pb_I_in h0 h1 (by omega)
theorem pb_rdA {N : Nat} {cA : ClassId} {f : Nat → Value} {z : Int} (h0 : 0 ≤ z) (h1 : z < N) (hN : N < 2147483648) : (arrV cA N f).slots[(pb_I z).toNatClampNeg]? = some (f z.toNat) := by
  rw [pb_I_clamp h0 h1 (by omega)]
  exact arrV_read _ _ (by omega)
theorem pb_Ex.alen0 {nx tg a N kd : Nat} {x : pb_C} (hi : pb_ig (pb_tb M) pc = some (.arraylength, nx, tg)) (ha : h.2 a = some x) (hx9 : (match x with | .inl (_, N, _) => N | .inr (.inl (N, _)) => N | .inr (.inr (.inl (N, _))) => N | .inr (.inr (.inr (.inl (N, _)))) => N | .inr (.inr (.inr (.inr _))) => 4294967296) = N) (hN : N < 2147483648) (kk : pb_Ex G M n C S Q k u nx L (pb_i N :: st) h) : pb_Ex G M n C S Q k u pc L (pb_r a :: st) h := by
  intro p e R s m args below meth c X H locs ls hR hO hL hl hn
  have X' := X
  obtain ⟨hx, hb, hml, hrt, hlk, hnm, hown, hts, hHT, hSF, hAl, hRm, hT, hsz⟩ := X
  obtain ⟨hd, rfl, hj⟩ := pb_ig_ok hT hi rfl
  obtain ⟨hcz, -⟩ := hR.2.2 a _ ha
  have K := kk p e R s m args below meth c X' H locs ls hR hO hL hl hn
  rcases x with ⟨kd, N', g⟩ | ⟨N', g⟩ | ⟨N', g⟩ | ⟨N', g⟩ | ⟨ci, fs⟩
  · have hx9 : N' = N := hx9
    subst hx9
    obtain ⟨hk0, -, hcell⟩ := hcz
    exact W.alen (n := pb_I N') (ty := pb_ty kd) hx hb hcell (pb_arrT hSF hAl kd (by omega) _ _) (by rw [arrV_size, pb_I_nat]) rfl rfl hd K
  · have hx9 : N' = N := hx9
    subst hx9
    exact W.alen (n := pb_I N') (ty := .long) hx hb hcz.2 (pb_arrT hSF hAl 2 (by omega) _ _) (by rw [arrV_size, pb_I_nat]) rfl rfl hd K
  · have hx9 : N' = N := hx9
    subst hx9
    exact W.alen (n := pb_I N') (ty := .double) hx hb hcz.2 (pb_arrT hSF hAl 3 (by omega) _ _) (by rw [arrV_size, pb_I_nat]) rfl rfl hd K
  · have hx9 : N' = N := hx9
    subst hx9
    exact W.alen (n := pb_I N') (ty := .object "java/lang/Object") hx hb hcz.2 (pb_arrT hSF hAl 6 (by omega) _ _) (by rw [arrV_size, pb_I_nat]) rfl rfl hd K
  · have hx9 : 4294967296 = N := hx9
    omega
theorem pb_Ex.iald {nx tg a N : Nat} {g : Nat → Int} {z : Int} (hi : pb_ig (pb_tb M) pc = some (.iaload, nx, tg)) (ha : h.2 a = some (pb_aI 0 N g)) (h0 : 0 ≤ z) (h1 : z < N) (kk : pb_Ex G M n C S Q k u nx L (pb_i (g z.toNat) :: st) h) : pb_Ex G M n C S Q k u pc L (pb_i z :: pb_r a :: st) h := by
  intro p e R s m args below meth c X H locs ls hR hO hL hl hn
  have X' := X
  obtain ⟨hx, hb, hml, hrt, hlk, hnm, hown, hts, hHT, hSF, hAl, hRm, hT, hsz⟩ := X
  obtain ⟨hd, rfl, hj⟩ := pb_ig_ok hT hi rfl
  obtain ⟨⟨-, hN, hcell⟩, -⟩ := hR.2.2 a _ ha
  exact W.iald (v := .int (pb_I (g z.toNat))) hx hb hcell (pb_arrT hSF hAl 0 (by omega) _ _) (fun q => by cases q) (pb_inA h0 h1 hN) (pb_rdA h0 h1 hN) rfl rfl hd (kk p e R s m args below meth c X' H locs ls hR hO hL hl hn)
theorem pb_Ex.zald {nx tg a N : Nat} {g : Nat → Int} {z : Int} (hi : pb_ig (pb_tb M) pc = some (.baload, nx, tg)) (ha : h.2 a = some (pb_aI 1 N g)) (h0 : 0 ≤ z) (h1 : z < N) (kk : pb_Ex G M n C S Q k u nx L (pb_i (g z.toNat) :: st) h) : pb_Ex G M n C S Q k u pc L (pb_i z :: pb_r a :: st) h := by
  intro p e R s m args below meth c X H locs ls hR hO hL hl hn
  have X' := X
  obtain ⟨hx, hb, hml, hrt, hlk, hnm, hown, hts, hHT, hSF, hAl, hRm, hT, hsz⟩ := X
  obtain ⟨hd, rfl, hj⟩ := pb_ig_ok hT hi rfl
  obtain ⟨⟨-, hN, hcell⟩, -⟩ := hR.2.2 a _ ha
  exact W.zald (v := .int (pb_I (g z.toNat))) hx hb hcell (pb_arrT hSF hAl 1 (by omega) _ _) (fun q => by cases q) (pb_inA h0 h1 hN) (pb_rdA h0 h1 hN) rfl rfl hd (kk p e R s m args below meth c X' H locs ls hR hO hL hl hn)
theorem pb_Ex.bald {nx tg a N : Nat} {g : Nat → Int} {z : Int} (hi : pb_ig (pb_tb M) pc = some (.baload, nx, tg)) (ha : h.2 a = some (pb_aI 4 N g)) (h0 : 0 ≤ z) (h1 : z < N) (kk : pb_Ex G M n C S Q k u nx L (pb_i (g z.toNat) :: st) h) : pb_Ex G M n C S Q k u pc L (pb_i z :: pb_r a :: st) h := by
  intro p e R s m args below meth c X H locs ls hR hO hL hl hn
  have X' := X
  obtain ⟨hx, hb, hml, hrt, hlk, hnm, hown, hts, hHT, hSF, hAl, hRm, hT, hsz⟩ := X
  obtain ⟨hd, rfl, hj⟩ := pb_ig_ok hT hi rfl
  obtain ⟨⟨-, hN, hcell⟩, -⟩ := hR.2.2 a _ ha
  exact W.bald (v := .int (pb_I (g z.toNat))) hx hb hcell (pb_arrT hSF hAl 4 (by omega) _ _) (fun q => by cases q) (pb_inA h0 h1 hN) (pb_rdA h0 h1 hN) rfl rfl hd (kk p e R s m args below meth c X' H locs ls hR hO hL hl hn)
theorem pb_Ex.cald {nx tg a N : Nat} {g : Nat → Int} {z : Int} (hi : pb_ig (pb_tb M) pc = some (.caload, nx, tg)) (ha : h.2 a = some (pb_aI 5 N g)) (h0 : 0 ≤ z) (h1 : z < N) (kk : pb_Ex G M n C S Q k u nx L (pb_i (g z.toNat) :: st) h) : pb_Ex G M n C S Q k u pc L (pb_i z :: pb_r a :: st) h := by
  intro p e R s m args below meth c X H locs ls hR hO hL hl hn
  have X' := X
  obtain ⟨hx, hb, hml, hrt, hlk, hnm, hown, hts, hHT, hSF, hAl, hRm, hT, hsz⟩ := X
  obtain ⟨hd, rfl, hj⟩ := pb_ig_ok hT hi rfl
  obtain ⟨⟨-, hN, hcell⟩, -⟩ := hR.2.2 a _ ha
  exact W.cald (v := .int (pb_I (g z.toNat))) hx hb hcell (pb_arrT hSF hAl 5 (by omega) _ _) (fun q => by cases q) (pb_inA h0 h1 hN) (pb_rdA h0 h1 hN) rfl rfl hd (kk p e R s m args below meth c X' H locs ls hR hO hL hl hn)
theorem pb_Ex.lald {nx tg a N : Nat} {g : Nat → Int} {z : Int} (hi : pb_ig (pb_tb M) pc = some (.laload, nx, tg)) (ha : h.2 a = some (pb_aJ N g)) (h0 : 0 ≤ z) (h1 : z < N) (kk : pb_Ex G M n C S Q k u nx L (pb_j (g z.toNat) :: st) h) : pb_Ex G M n C S Q k u pc L (pb_i z :: pb_r a :: st) h := by
  intro p e R s m args below meth c X H locs ls hR hO hL hl hn
  have X' := X
  obtain ⟨hx, hb, hml, hrt, hlk, hnm, hown, hts, hHT, hSF, hAl, hRm, hT, hsz⟩ := X
  obtain ⟨hd, rfl, hj⟩ := pb_ig_ok hT hi rfl
  obtain ⟨⟨hN, hcell⟩, -⟩ := hR.2.2 a _ ha
  exact W.lald (v := .long (pb_J (g z.toNat))) hx hb hcell (pb_arrT hSF hAl 2 (by omega) _ _) (fun q => by cases q) (pb_inA h0 h1 hN) (pb_rdA h0 h1 hN) rfl rfl hd (kk p e R s m args below meth c X' H locs ls hR hO hL hl hn)
theorem pb_Ex.dald {nx tg a N : Nat} {g : Nat → UInt64} {z : Int} (hi : pb_ig (pb_tb M) pc = some (.daload, nx, tg)) (ha : h.2 a = some (pb_aD N g)) (h0 : 0 ≤ z) (h1 : z < N) (kk : pb_Ex G M n C S Q k u nx L (pb_d (g z.toNat) :: st) h) : pb_Ex G M n C S Q k u pc L (pb_i z :: pb_r a :: st) h := by
  intro p e R s m args below meth c X H locs ls hR hO hL hl hn
  have X' := X
  obtain ⟨hx, hb, hml, hrt, hlk, hnm, hown, hts, hHT, hSF, hAl, hRm, hT, hsz⟩ := X
  obtain ⟨hd, rfl, hj⟩ := pb_ig_ok hT hi rfl
  obtain ⟨⟨hN, hcell⟩, -⟩ := hR.2.2 a _ ha
  exact W.dald (v := .double (g z.toNat)) hx hb hcell (pb_arrT hSF hAl 3 (by omega) _ _) (fun q => by cases q) (pb_inA h0 h1 hN) (pb_rdA h0 h1 hN) rfl rfl hd (kk p e R s m args below meth c X' H locs ls hR hO hL hl hn)
theorem pb_Ex.aald {nx tg a N : Nat} {g : Nat → Option Nat} {z : Int} (hi : pb_ig (pb_tb M) pc = some (.aaload, nx, tg)) (ha : h.2 a = some (pb_aR N g)) (h0 : 0 ≤ z) (h1 : z < N) (kk : pb_Ex G M n C S Q k u nx L (pb_q (g z.toNat) :: st) h) : pb_Ex G M n C S Q k u pc L (pb_i z :: pb_r a :: st) h := by
  intro p e R s m args below meth c X H locs ls hR hO hL hl hn
  have X' := X
  obtain ⟨hx, hb, hml, hrt, hlk, hnm, hown, hts, hHT, hSF, hAl, hRm, hT, hsz⟩ := X
  obtain ⟨hd, rfl, hj⟩ := pb_ig_ok hT hi rfl
  obtain ⟨⟨hN, hcell⟩, -⟩ := hR.2.2 a _ ha
  exact W.aald (v := va_rf (g z.toNat)) (ty := .object "java/lang/Object") hx hb hcell (pb_arrT hSF hAl 6 (by omega) _ _) rfl (fun q => by cases q) (pb_inA h0 h1 hN) (pb_rdA h0 h1 hN) rfl rfl hd (kk p e R s m args below meth c X' H locs ls hR hO hL hl hn)
theorem pb_updI {g : Nat → Int} {i : Nat} {z : Int} : (fun j => Value.int (pb_I (va_up g i z j))) = updV (fun j => Value.int (pb_I (g j))) i (.int (pb_I z)) := by
  funext j
  by_cases e : j = i <;> simp [va_up, updV, e]
theorem pb_updJ {g : Nat → Int} {i : Nat} {z : Int} : (fun j => Value.long (pb_J (va_up g i z j))) = updV (fun j => Value.long (pb_J (g j))) i (.long (pb_J z)) := by
  funext j
  by_cases e : j = i <;> simp [va_up, updV, e]
theorem pb_updD {g : Nat → UInt64} {i : Nat} {z : UInt64} : (fun j => Value.double (va_up g i z j)) = updV (fun j => Value.double (g j)) i (.double z) := by
  funext j
  by_cases e : j = i <;> simp [va_up, updV, e]
theorem pb_updR {g : Nat → Option Nat} {i : Nat} {z : Option Nat} : (fun j => va_rf (va_up g i z j)) = updV (fun j => va_rf (g j)) i (va_rf z) := by
  funext j
  by_cases e : j = i <;> simp [va_up, updV, e]
theorem pb_locs {G : pb_G} {locs : List Loc} {a i : Nat} (hL : ∀ z ∈ locs, pb_b G ≤ z.base) (hab : pb_b G ≤ a) : ∀ z ∈ locs ++ [⟨a, i⟩], pb_b G ≤ z.base := by
  intro z hz
  rcases List.mem_append.mp hz with h9 | h9
  · exact hL z h9
  · rw [List.mem_singleton.mp h9]; exact hab
theorem pb_Ex.iast {nx tg a N : Nat} {g : Nat → Int} {z v : Int} (hi : pb_ig (pb_tb M) pc = some (.iastore, nx, tg)) (ha : h.2 a = some (pb_aI 0 N g)) (h0 : 0 ≤ z) (h1 : z < N) (kk : pb_Ex G M n C S Q k u nx L st (pb_set h a (pb_aI 0 N (va_up g z.toNat v)))) : pb_Ex G M n C S Q k u pc L (pb_i v :: pb_i z :: pb_r a :: st) h := by
  intro p e R s m args below meth c X H locs ls hR hO hL hl hn
  have X' := X
  obtain ⟨hx, hb, hml, hrt, hlk, hnm, hown, hts, hHT, hSF, hAl, hRm, hT, hsz⟩ := X
  obtain ⟨hd, rfl, hj⟩ := pb_ig_ok hT hi rfl
  obtain ⟨⟨hk0, hN, hcell⟩, hab⟩ := hR.2.2 a _ ha
  have hab := hab rfl
  refine W.iast hx hb hcell (pb_arrT hSF hAl 0 (by omega) _ _) (fun q => by cases q) (pb_inA h0 h1 hN) rfl rfl hd fun H1 e1 z1 oq => ?_
  rw [arrV_store, pb_I_clamp h0 h1 (by omega), ← pb_updI] at e1
  exact kk p e R s m args below meth c X' H1 _ ls (hR.set ⟨hk0, hN, e1⟩ hab z1 oq) (hO.set hab oq) (pb_locs hL hab) hl hn
theorem pb_Ex.zast {nx tg a N : Nat} {g : Nat → Int} {z v : Int} (hi : pb_ig (pb_tb M) pc = some (.bastore, nx, tg)) (ha : h.2 a = some (pb_aI 1 N g)) (h0 : 0 ≤ z) (h1 : z < N) (hv : v = 0 ∨ v = 1) (kk : pb_Ex G M n C S Q k u nx L st (pb_set h a (pb_aI 1 N (va_up g z.toNat v)))) : pb_Ex G M n C S Q k u pc L (pb_i v :: pb_i z :: pb_r a :: st) h := by
  intro p e R s m args below meth c X H locs ls hR hO hL hl hn
  have X' := X
  obtain ⟨hx, hb, hml, hrt, hlk, hnm, hown, hts, hHT, hSF, hAl, hRm, hT, hsz⟩ := X
  obtain ⟨hd, rfl, hj⟩ := pb_ig_ok hT hi rfl
  obtain ⟨⟨hk0, hN, hcell⟩, hab⟩ := hR.2.2 a _ ha
  have hab := hab rfl
  refine W.zast hx hb hcell (pb_arrT hSF hAl 1 (by omega) _ _) (fun q => by cases q) (pb_inA h0 h1 hN) rfl rfl hd fun H1 e1 z1 oq => ?_
  rw [(pb_nb hv).1, arrV_store, pb_I_clamp h0 h1 (by omega), ← pb_updI] at e1
  exact kk p e R s m args below meth c X' H1 _ ls (hR.set ⟨hk0, hN, e1⟩ hab z1 oq) (hO.set hab oq) (pb_locs hL hab) hl hn
theorem pb_Ex.bast {nx tg a N : Nat} {g : Nat → Int} {z v : Int} (hi : pb_ig (pb_tb M) pc = some (.bastore, nx, tg)) (ha : h.2 a = some (pb_aI 4 N g)) (h0 : 0 ≤ z) (h1 : z < N) (hab : pb_b G ≤ a) (hv : -128 ≤ v ∧ v < 128) (kk : pb_Ex G M n C S Q k u nx L st (pb_set h a (pb_aI 4 N (va_up g z.toNat v)))) : pb_Ex G M n C S Q k u pc L (pb_i v :: pb_i z :: pb_r a :: st) h := by
  intro p e R s m args below meth c X H locs ls hR hO hL hl hn
  have X' := X
  obtain ⟨hx, hb, hml, hrt, hlk, hnm, hown, hts, hHT, hSF, hAl, hRm, hT, hsz⟩ := X
  obtain ⟨hd, rfl, hj⟩ := pb_ig_ok hT hi rfl
  obtain ⟨⟨hk0, hN, hcell⟩, -⟩ := hR.2.2 a _ ha
  refine W.bast hx hb hcell (pb_arrT hSF hAl 4 (by omega) _ _) (fun q => by cases q) (pb_inA h0 h1 hN) rfl rfl hd fun H1 e1 z1 oq => ?_
  rw [(pb_nby hv).1, arrV_store, pb_I_clamp h0 h1 (by omega), ← pb_updI] at e1
  exact kk p e R s m args below meth c X' H1 _ ls (hR.set ⟨hk0, hN, e1⟩ hab z1 oq) (hO.set hab oq) (pb_locs hL hab) hl hn
theorem pb_Ex.cast {nx tg a N : Nat} {g : Nat → Int} {z v : Int} (hi : pb_ig (pb_tb M) pc = some (.castore, nx, tg)) (ha : h.2 a = some (pb_aI 5 N g)) (h0 : 0 ≤ z) (h1 : z < N) (hv : 0 ≤ v ∧ v < 65536) (kk : pb_Ex G M n C S Q k u nx L st (pb_set h a (pb_aI 5 N (va_up g z.toNat v)))) : pb_Ex G M n C S Q k u pc L (pb_i v :: pb_i z :: pb_r a :: st) h := by
  intro p e R s m args below meth c X H locs ls hR hO hL hl hn
  have X' := X
  obtain ⟨hx, hb, hml, hrt, hlk, hnm, hown, hts, hHT, hSF, hAl, hRm, hT, hsz⟩ := X
  obtain ⟨hd, rfl, hj⟩ := pb_ig_ok hT hi rfl
  obtain ⟨⟨hk0, hN, hcell⟩, hab⟩ := hR.2.2 a _ ha
  have hab := hab rfl
  refine W.cast hx hb hcell (pb_arrT hSF hAl 5 (by omega) _ _) (fun q => by cases q) (pb_inA h0 h1 hN) rfl rfl hd fun H1 e1 z1 oq => ?_
  rw [(pb_nch hv).1, arrV_store, pb_I_clamp h0 h1 (by omega), ← pb_updI] at e1
  exact kk p e R s m args below meth c X' H1 _ ls (hR.set ⟨hk0, hN, e1⟩ hab z1 oq) (hO.set hab oq) (pb_locs hL hab) hl hn
theorem pb_Ex.last {nx tg a N : Nat} {g : Nat → Int} {z v : Int} (hi : pb_ig (pb_tb M) pc = some (.lastore, nx, tg)) (ha : h.2 a = some (pb_aJ N g)) (h0 : 0 ≤ z) (h1 : z < N) (kk : pb_Ex G M n C S Q k u nx L st (pb_set h a (pb_aJ N (va_up g z.toNat v)))) : pb_Ex G M n C S Q k u pc L (pb_j v :: pb_i z :: pb_r a :: st) h := by
  intro p e R s m args below meth c X H locs ls hR hO hL hl hn
  have X' := X
  obtain ⟨hx, hb, hml, hrt, hlk, hnm, hown, hts, hHT, hSF, hAl, hRm, hT, hsz⟩ := X
  obtain ⟨hd, rfl, hj⟩ := pb_ig_ok hT hi rfl
  obtain ⟨⟨hN, hcell⟩, hab⟩ := hR.2.2 a _ ha
  have hab := hab rfl
  refine W.last hx hb hcell (pb_arrT hSF hAl 2 (by omega) _ _) (fun q => by cases q) (pb_inA h0 h1 hN) rfl rfl hd fun H1 e1 z1 oq => ?_
  rw [arrV_store, pb_I_clamp h0 h1 (by omega), ← pb_updJ] at e1
  exact kk p e R s m args below meth c X' H1 _ ls (hR.set ⟨hN, e1⟩ hab z1 oq) (hO.set hab oq) (pb_locs hL hab) hl hn
theorem pb_Ex.dast {nx tg a N : Nat} {g : Nat → UInt64} {z : Int} {v : UInt64} (hi : pb_ig (pb_tb M) pc = some (.dastore, nx, tg)) (ha : h.2 a = some (pb_aD N g)) (h0 : 0 ≤ z) (h1 : z < N) (kk : pb_Ex G M n C S Q k u nx L st (pb_set h a (pb_aD N (va_up g z.toNat v)))) : pb_Ex G M n C S Q k u pc L (pb_d v :: pb_i z :: pb_r a :: st) h := by
  intro p e R s m args below meth c X H locs ls hR hO hL hl hn
  have X' := X
  obtain ⟨hx, hb, hml, hrt, hlk, hnm, hown, hts, hHT, hSF, hAl, hRm, hT, hsz⟩ := X
  obtain ⟨hd, rfl, hj⟩ := pb_ig_ok hT hi rfl
  obtain ⟨⟨hN, hcell⟩, hab⟩ := hR.2.2 a _ ha
  have hab := hab rfl
  refine W.dast hx hb hcell (pb_arrT hSF hAl 3 (by omega) _ _) (fun q => by cases q) (pb_inA h0 h1 hN) rfl rfl hd fun H1 e1 z1 oq => ?_
  rw [arrV_store, pb_I_clamp h0 h1 (by omega), ← pb_updD] at e1
  exact kk p e R s m args below meth c X' H1 _ ls (hR.set ⟨hN, e1⟩ hab z1 oq) (hO.set hab oq) (pb_locs hL hab) hl hn
end ROWS
