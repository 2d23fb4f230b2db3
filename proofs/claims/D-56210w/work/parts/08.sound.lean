set_option maxRecDepth 100000
theorem pb_ir_ok {n m : Int} (h : pb_ir n m = true) : -m ≤ n ∧ n < m := by
  simp only [pb_ir, Bool.and_eq_true, decide_eq_true_eq] at h
  exact h
section SND
variable {p : Program} {l : Launch} {e : Env} {R : Room} {s : State} {m : MethodId} {args : Array Value} {below : List Frame} {meth : Method} {c : Code} {H : Heap} {locs : List Loc} {cells slots : Nat} {Q : State → Prop}
variable {cc : ByteArray} {pc nL : Nat} {L : List (Option pb_V)} {st : List pb_V}
theorem pb_ldi_ok {L : List (Option pb_V)} {k : Nat} {v : pb_V} (h : pb_ldi L k = some v) : ∃ z, v = .inl z ∧ pb_gt L k = some (.inl z) := by
  unfold pb_ldi at h
  split at h
  · next z hz => cases h; exact ⟨z, rfl, hz⟩
  · cases h
theorem pb_ldj_ok {L : List (Option pb_V)} {k : Nat} {v : pb_V} (h : pb_ldj L k = some v) : ∃ z, v = .inr (.inl z) ∧ pb_gt L k = some (.inr (.inl z)) := by
  unfold pb_ldj at h
  split at h
  · next z hz => cases h; exact ⟨z, rfl, hz⟩
  · cases h
theorem pb_ldd_ok {L : List (Option pb_V)} {k : Nat} {v : pb_V} (h : pb_ldd L k = some v) : ∃ z, v = .inr (.inr (.inl z)) ∧ pb_gt L k = some (.inr (.inr (.inl z))) := by
  unfold pb_ldd at h
  split at h
  · next z hz => cases h; exact ⟨z, rfl, hz⟩
  · cases h
theorem pb_lda_ok {L : List (Option pb_V)} {k : Nat} {v : pb_V} (h : pb_lda L k = some v) : ∃ z, v = .inr (.inr (.inr z)) ∧ pb_gt L k = some (.inr (.inr (.inr z))) := by
  unfold pb_lda at h
  split at h
  · next z hz => cases h; exact ⟨z, rfl, hz⟩
  · cases h
theorem pb_ld_ok (hx : p.tables.exec = Jvm.exec) (hb : c.code = cc) {i : Instr} {v : pb_V} (h : pb_ld i L = some v) (hd : decode cc pc = .ok (i, pb_ln i)) {ls : Array Slot} (hl : pb_LR nL L ls)
    (k : W p l e R s m args below meth c H locs cells slots Q (F0 m (pc + pb_ln i) ls ((v :: st).map pb_cv))) : W p l e R s m args below meth c H locs cells slots Q (F0 m pc ls (st.map pb_cv)) := by
  unfold pb_ld at h
  split at h
  · next n => cases h; exact lv_iconst hx hb hd rfl k
  · next n =>
    split at h
    · next hr =>
      cases h
      have hr := pb_ir_ok hr
      refine lv_bipush hx hb hd ?_ k
      show _ = pb_I n
      rw [← Int32.toInt_inj, Int8.toInt_toInt32, pb_I_toInt ⟨by omega, by omega⟩, Int8.toInt_ofInt_of_le (by omega) (by omega)]
    · cases h
  · next n =>
    split at h
    · next hr =>
      cases h
      have hr := pb_ir_ok hr
      refine lv_sipush hx hb hd ?_ k
      show _ = pb_I n
      rw [← Int32.toInt_inj, Int16.toInt_toInt32, pb_I_toInt ⟨by omega, by omega⟩, Int16.toInt_ofInt_of_le (by omega) (by omega)]
    · cases h
  · next n =>
    cases h
    exact lv_lconst hx hb hd (by show Int64.ofNat n = pb_J (n.val : Nat); unfold pb_J; rw [Int64.ofInt_eq_ofNat]) k
  · cases h; exact lv_null hx hb hd k
  · next n => obtain ⟨z, rfl, hz⟩ := pb_ldi_ok h; exact lv_iload hx hb hd (hl.2.2 _ _ hz) k
  · next n => obtain ⟨z, rfl, hz⟩ := pb_ldi_ok h; exact lv_iload_n hx hb hd rfl (hl.2.2 _ _ hz) k
  · next n => obtain ⟨z, rfl, hz⟩ := pb_ldj_ok h; exact lv_lload hx hb hd (hl.2.2 _ _ hz) k
  · next n => obtain ⟨z, rfl, hz⟩ := pb_ldj_ok h; exact lv_lload_n hx hb hd rfl (hl.2.2 _ _ hz) k
  · next n => obtain ⟨z, rfl, hz⟩ := pb_ldd_ok h; exact lv_dload hx hb hd (hl.2.2 _ _ hz) k
  · next n => obtain ⟨z, rfl, hz⟩ := pb_ldd_ok h; exact lv_dload_n hx hb hd rfl (hl.2.2 _ _ hz) k
  · next n =>
    obtain ⟨z, rfl, hz⟩ := pb_lda_ok h
    cases z with
    | none => exact lv_aloadN hx hb hd (hl.2.2 _ _ hz) k
    | some a => exact lv_aload hx hb hd (hl.2.2 _ _ hz) k
  · next n =>
    obtain ⟨z, rfl, hz⟩ := pb_lda_ok h
    cases z with
    | none => exact lv_aload_nN hx hb hd rfl (hl.2.2 _ _ hz) k
    | some a => exact lv_aload_n hx hb hd rfl (hl.2.2 _ _ hz) k
  · cases h
theorem pb_char (z : Int) : ((pb_I z).toUInt32 % 65536).toInt32 = pb_I (z % 65536) := by
  rw [← Int32.toBitVec_inj]
  apply BitVec.eq_of_toNat_eq
  have h1 : ((pb_I z).toUInt32 % 65536).toInt32.toBitVec.toNat = (BitVec.ofInt 32 z).toNat % 65536 := rfl
  have h2 : (pb_I (z % 65536)).toBitVec.toNat = (BitVec.ofInt 32 (z % 65536)).toNat := rfl
  rw [h1, h2, BitVec.toNat_ofInt, BitVec.toNat_ofInt]
  omega
theorem pb_ar_ok (hx : p.tables.exec = Jvm.exec) (hb : c.code = cc) {i : Instr} {st' : List pb_V} (h : pb_ar i st = some st') (hd : decode cc pc = .ok (i, pb_ln i)) {ls : Array Slot}
    (k : W p l e R s m args below meth c H locs cells slots Q (F0 m (pc + pb_ln i) ls (st'.map pb_cv))) : W p l e R s m args below meth c H locs cells slots Q (F0 m pc ls (st.map pb_cv)) := by
  unfold pb_ar at h
  split at h
  · split at h
    · next b a r => cases h; exact lv_iadd hx hb hd (by rw [pb_I_add]; exact k)
    · cases h
  · split at h
    · next b a r => cases h; exact lv_isub hx hb hd (by rw [pb_I_sub]; exact k)
    · cases h
  · split at h
    · next b a r => cases h; exact lv_imul hx hb hd (by rw [pb_I_mul]; exact k)
    · cases h
  · split at h
    · next a r => cases h; exact lv_ineg hx hb hd (by rw [pb_I_neg]; exact k)
    · cases h
  · split at h
    · next b a r => cases h; exact lv_ladd hx hb hd (by rw [pb_J_add]; exact k)
    · cases h
  · split at h
    · next a r => cases h; exact lv_i2c hx hb hd (pb_char a) k
    · cases h
  · split at h
    · split at h
      · next v r hv => cases h; exact lv_dup hx hb hd (pb_c1_cat hv) k
      · cases h
    · cases h
  · split at h
    · split at h
      · next v w r hv => cases h; rw [Bool.and_eq_true] at hv; exact lv_dup_x1 hx hb hd (pb_c1_cat hv.1) (pb_c1_cat hv.2) k
      · cases h
    · cases h
  · split at h
    · split at h
      · next v w r hv => cases h; rw [Bool.and_eq_true] at hv; exact lv_dup2_11 hx hb hd (pb_c1_cat hv.1) (pb_c1_cat hv.2) k
      · cases h
    · cases h
  · split at h
    · split at h
      · next v r hv => cases h; exact lv_pop hx hb hd (pb_c1_cat hv) k
      · cases h
    · cases h
  · cases h
theorem pb_sti_ok {k k' : Nat} {v : pb_V} {st' : List pb_V} (h : pb_sti k st = some (k', v, st')) : k' = k ∧ ∃ z, v = .inl z ∧ st = .inl z :: st' := by
  unfold pb_sti at h
  split at h
  · next z r => cases h; exact ⟨rfl, z, rfl, rfl⟩
  · cases h
theorem pb_stj_ok {k k' : Nat} {v : pb_V} {st' : List pb_V} (h : pb_stj k st = some (k', v, st')) : k' = k ∧ ∃ z, v = .inr (.inl z) ∧ st = .inr (.inl z) :: st' := by
  unfold pb_stj at h
  split at h
  · next z r => cases h; exact ⟨rfl, z, rfl, rfl⟩
  · cases h
theorem pb_std_ok {k k' : Nat} {v : pb_V} {st' : List pb_V} (h : pb_std k st = some (k', v, st')) : k' = k ∧ ∃ z, v = .inr (.inr (.inl z)) ∧ st = .inr (.inr (.inl z)) :: st' := by
  unfold pb_std at h
  split at h
  · next z r => cases h; exact ⟨rfl, z, rfl, rfl⟩
  · cases h
theorem pb_sta_ok {k k' : Nat} {v : pb_V} {st' : List pb_V} (h : pb_sta k st = some (k', v, st')) : k' = k ∧ ∃ z, v = .inr (.inr (.inr z)) ∧ st = .inr (.inr (.inr z)) :: st' := by
  unfold pb_sta at h
  split at h
  · next z r => cases h; exact ⟨rfl, z, rfl, rfl⟩
  · cases h
theorem pb_so_ok (hx : p.tables.exec = Jvm.exec) (hb : c.code = cc) {i : Instr} {kk : Nat} {v : pb_V} {st' : List pb_V} (h : pb_so i L st = some (kk, v, st')) (hd : decode cc pc = .ok (i, pb_ln i)) {ls : Array Slot} (hl : pb_LR nL L ls) (hk : kk < L.length) (hn : L.length ≤ nL) (hp : pb_pv L kk = true)
    (k : ∀ ls', pb_LR nL (L.set kk (some v)) ls' → W p l e R s m args below meth c H locs cells slots Q (F0 m (pc + pb_ln i) ls' (st'.map pb_cv))) : W p l e R s m args below meth c H locs cells slots Q (F0 m pc ls (st.map pb_cv)) := by
  have hl2 := pb_LR_has.mp hl
  unfold pb_so at h
  split at h
  · obtain ⟨rfl, z, rfl, rfl⟩ := pb_sti_ok h
    exact lv_istore hx hb hd hl2 (by omega) rfl (fun ls' h' => k ls' (pb_put1 hk hp h'))
  · obtain ⟨rfl, z, rfl, rfl⟩ := pb_sti_ok h
    exact lv_istore_n hx hb hd rfl hl2 (by omega) rfl (fun ls' h' => k ls' (pb_put1 hk hp h'))
  · obtain ⟨rfl, z, rfl, rfl⟩ := pb_sta_ok h
    cases z with
    | none => exact lv_astoreN hx hb hd hl2 (by omega) rfl (fun ls' h' => k ls' (pb_put1 hk hp h'))
    | some a => exact lv_astore hx hb hd hl2 (by omega) rfl (fun ls' h' => k ls' (pb_put1 hk hp h'))
  · obtain ⟨rfl, z, rfl, rfl⟩ := pb_sta_ok h
    cases z with
    | none => exact lv_astore_nN hx hb hd rfl hl2 (by omega) rfl (fun ls' h' => k ls' (pb_put1 hk hp h'))
    | some a => exact lv_astore_n hx hb hd rfl hl2 (by omega) rfl (fun ls' h' => k ls' (pb_put1 hk hp h'))
  · split at h
    · next z hz =>
      cases h
      obtain ⟨j, hj⟩ := List.getElem?_of_mem (pb_as_mem.mpr ⟨_, hz, rfl⟩ : (kk, pb_cv (.inl z)) ∈ pb_as L)
      exact lv_iinc hx hb hd hl2 hj (pb_I_add z _) (by omega) rfl (fun ls' h' => k ls' (pb_put1 hk hp h'))
    · cases h
  · cases h
theorem pb_so2_ok (hx : p.tables.exec = Jvm.exec) (hb : c.code = cc) {i : Instr} {kk : Nat} {v : pb_V} {st' : List pb_V} (h : pb_so2 i st = some (kk, v, st')) (hd : decode cc pc = .ok (i, pb_ln i)) {ls : Array Slot} (hl : pb_LR nL L ls) (hk : kk + 1 < L.length) (hn : L.length ≤ nL) (hp : pb_pv L kk = true)
    (k : ∀ ls', pb_LR nL ((L.set kk (some v)).set (kk + 1) none) ls' → W p l e R s m args below meth c H locs cells slots Q (F0 m (pc + pb_ln i) ls' (st'.map pb_cv))) : W p l e R s m args below meth c H locs cells slots Q (F0 m pc ls (st.map pb_cv)) := by
  have hl2 := pb_LR_has.mp hl
  unfold pb_so2 at h
  split at h
  · obtain ⟨rfl, z, rfl, rfl⟩ := pb_stj_ok h
    exact lv_lstore hx hb hd hl2 (by omega) rfl (fun ls' h' => k ls' (pb_put2 hk hp h'))
  · obtain ⟨rfl, z, rfl, rfl⟩ := pb_stj_ok h
    exact lv_lstore_n hx hb hd rfl hl2 (by omega) rfl (fun ls' h' => k ls' (pb_put2 hk hp h'))
  · obtain ⟨rfl, z, rfl, rfl⟩ := pb_std_ok h
    exact lv_dstore hx hb hd hl2 (by omega) rfl (fun ls' h' => k ls' (pb_put2 hk hp h'))
  · obtain ⟨rfl, z, rfl, rfl⟩ := pb_std_ok h
    exact lv_dstore_n hx hb hd rfl hl2 (by omega) rfl (fun ls' h' => k ls' (pb_put2 hk hp h'))
  · cases h
theorem pb_s1_ok (hx : p.tables.exec = Jvm.exec) (hb : c.code = cc) {i : Instr} {nx tg pc' : Nat} {L' : List (Option pb_V)} {st' : List pb_V} (h : pb_s1 i nx tg L st = some (pc', L', st')) (hd : decode cc pc = .ok (i, pb_ln i)) (hnx : nx = pc + pb_ln i) (hj : pb_jp pc i tg = true) {ls : Array Slot} (hl : pb_LR nL L ls) (hn : L.length ≤ nL)
    (k : L'.length ≤ nL → ∀ ls', pb_LR nL L' ls' → W p l e R s m args below meth c H locs cells slots Q (F0 m pc' ls' (st'.map pb_cv))) : W p l e R s m args below meth c H locs cells slots Q (F0 m pc ls (st.map pb_cv)) := by
  subst hnx
  unfold pb_s1 at h
  split at h
  · next v hv => cases h; exact pb_ld_ok hx hb hv hd hl (k hn ls hl)
  · split at h
    · next st2 hv => cases h; exact pb_ar_ok hx hb hv hd (k hn ls hl)
    · split at h
      · next kk v st2 hv =>
        split at h
        · next hp =>
          rw [pb_sL_eq] at h
          split at h
          · next hk =>
            cases h
            exact pb_so_ok hx hb hv hd hl hk hn hp (k (by rw [List.length_set]; exact hn))
          · cases h
        · cases h
      · split at h
        · next kk v st2 hv =>
          split at h
          · next hp =>
            rw [pb_sL_eq] at h
            split at h
            · next hk =>
              rw [pb_sL_eq] at h
              split at h
              · next hk2 =>
                cases h
                rw [List.length_set] at hk2
                exact pb_so2_ok hx hb hv hd hl hk2 hn hp (k (by rw [List.length_set, List.length_set]; exact hn))
              · cases h
            · cases h
          · cases h
        · split at h
          · next o =>
            cases h
            exact lv_goto hx hb hd (of_decide_eq_true hj) (k hn ls hl)
          · cases h
theorem pb_s1_ln {i : Instr} {nx tg : Nat} {L : List (Option pb_V)} {st : List pb_V} (h : pb_ln i = 0) : pb_s1 i nx tg L st = none := by
  cases i <;> first | rfl | (simp [pb_ln] at h)
theorem pb_go_ok (hx : p.tables.exec = Jvm.exec) (hb : c.code = cc) {T0 : pb_T} (hT : pb_Tok cc T0) : ∀ (n : Nat) (r : pb_T) (pc pc' : Nat) (L L' : List (Option pb_V)) (st st' : List pb_V), (∀ y ∈ r, y ∈ T0) → pb_go T0 n r pc L st = some (pc', L', st') → L.length ≤ nL → ∀ ls : Array Slot, pb_LR nL L ls →
    (L'.length ≤ nL → ∀ ls', pb_LR nL L' ls' → W p l e R s m args below meth c H locs cells slots Q (F0 m pc' ls' (st'.map pb_cv))) → W p l e R s m args below meth c H locs cells slots Q (F0 m pc ls (st.map pb_cv)) := by
  intro n
  induction n with
  | zero =>
    intro r pc pc' L L' st st' hr h hn ls hl k
    cases h
    exact k hn ls hl
  | succ n ih =>
    intro r pc pc' L L' st st' hr h hn ls hl k
    rw [pb_go] at h
    split at h
    · cases h; exact k hn ls hl
    · next x r' hh =>
      split at h
      · cases h; exact k hn ls hl
      · split at h
        · cases h; exact k hn ls hl
        · next pc2 L2 st2 h2 =>
          obtain ⟨h3, rfl, h5⟩ := pb_hd_ok hr hh
          rcases hT x h3 with h6 | ⟨h6, h7, h8⟩
          · rw [pb_s1_ln h6] at h2; cases h2
          · exact pb_s1_ok hx hb h2 h6 h7 h8 hl hn (fun hn2 ls2 hl2 => ih r' pc2 pc' L2 L' st2 st' h5 h hn2 ls2 hl2 k)
theorem pb_run_ok (hx : p.tables.exec = Jvm.exec) (hb : c.code = cc) {T0 : pb_T} (hT : pb_Tok cc T0) {n pc' : Nat} {L' : List (Option pb_V)} {st' : List pb_V} (h : pb_run T0 n pc L st = some (pc', L', st')) (hn : L.length ≤ nL) {ls : Array Slot} (hl : pb_LR nL L ls)
    (k : L'.length ≤ nL → ∀ ls', pb_LR nL L' ls' → W p l e R s m args below meth c H locs cells slots Q (F0 m pc' ls' (st'.map pb_cv))) : W p l e R s m args below meth c H locs cells slots Q (F0 m pc ls (st.map pb_cv)) := by
  unfold pb_run at h
  split at h
  · cases h
  · next x r' hh =>
    split at h
    · cases h
    · next pc2 L2 st2 h2 =>
      obtain ⟨h3, rfl, h5⟩ := pb_fd_ok hh
      rcases hT x h3 with h6 | ⟨h6, h7, h8⟩
      · rw [pb_s1_ln h6] at h2; cases h2
      · exact pb_s1_ok hx hb h2 h6 h7 h8 hl hn (fun hn2 ls2 hl2 => pb_go_ok hx hb hT n r' pc2 pc' L2 L' st2 st' h5 h hn2 ls2 hl2 k)
end SND
