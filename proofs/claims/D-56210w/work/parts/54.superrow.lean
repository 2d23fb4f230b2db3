set_option maxRecDepth 100000
section SUPB
variable {p : Program} {l : Launch} {e : Env} {R : Room} {s : State} {m : MethodId} {args : Array Value} {below : List Frame} {meth : Method} {c : Code} {locs : List Loc} {cells slots : Nat}
theorem vx_back9L {T S : State} {R' : Room} {L : List Loc} {k n : Nat} (X : Stand p l e R s m args below meth c T locs cells slots) (Y : Stand p l e R' ((T.setVm s.vm).setFrames (.invoking m args :: below)) m args below meth c T [] 0 0) (Z : Stand p l e R' ((T.setVm s.vm).setFrames (.invoking m args :: below)) m args below meth c S L k n) :
    Stand p l e R s m args below meth c S (locs ++ L) (cells + k) (slots + n) := by
  have hW0 : s.WarmedH ((T.setVm s.vm).setFrames (.invoking m args :: below)).vm := State.WarmedH.refl s
  refine { admits := X.admits, cas := X.cas, clock := X.clock, frames := X.frames, room := X.room, hears := X.hears, method := X.method, code := X.code, here := Z.here, tail := Z.tail, warmed := State.WarmedH.trans hW0 Z.warmed, limits := Z.limits.trans (Y.limits.symm.trans X.limits), bytes := Z.bytes.trans (Y.bytes.symm.trans X.bytes), same := ?_ }
  obtain ⟨e1, e2⟩ := Z.same
  rw [State.setFrames_setFrames] at e1
  have h2 : (T.setVm s.vm).sameButNew (S.setVm s.vm) L k n := ⟨e1, e2⟩
  exact X.same.trans h2
end SUPB
/-- the words of an exception of one's own -/
def pb_own (ci : Nat) (cls : String) (T : u_T) : Prop := pb_cl[ci]? = some (cls, T, 7) ∧ (ci ≠ 15 ∧ ci ≠ 16) ∧ ((T 0).1 = "java/lang/Throwable" ∧ (T 0).2.1 = "cause" ∧ (T 0).2.2.1 = "Ljava/lang/Throwable;") ∧ ((T 1).1 = "java/lang/Throwable" ∧ (T 1).2.1 = "stackTrace" ∧ (T 1).2.2.1 = "[Ljava/lang/StackTraceElement;") ∧ ((T 2).1 = "java/lang/Throwable" ∧ (T 2).2.1 = "suppressedExceptions" ∧ (T 2).2.2.1 = "Ljava/util/List;") ∧ ((T 4).1 = "java/lang/Throwable" ∧ (T 4).2.1 = "backtrace" ∧ (T 4).2.2.1 = "Ljava/lang/Object;") ∧
  Cond.instantiable cls 7 ∈ lw_all ∧ Cond.selects cls Bundle.tFill0 Bundle.tFill0 ∈ lw_all ∧ Cond.selects cls Bundle.tFill Bundle.tFill ∈ lw_all ∧ Cond.lays cls Bundle.tN "cause" "Ljava/lang/Throwable;" ∈ lw_all ∧ Cond.lays cls Bundle.tN "stackTrace" Bundle.steD ∈ lw_all ∧ Cond.lays cls Bundle.tN "suppressedExceptions" Bundle.listD ∈ lw_all ∧ Cond.lays cls Bundle.tN "backtrace" "Ljava/lang/Object;" ∈ lw_all
theorem pb_own9 : pb_own 7 RX9 TX9 := ⟨rfl, by decide, ⟨rfl, rfl, rfl⟩, ⟨rfl, rfl, rfl⟩, ⟨rfl, rfl, rfl⟩, ⟨rfl, rfl, rfl⟩, q757, q759, q611, q760, q761, q762, q764⟩
theorem pb_own13 : pb_own 11 RX13 TX13 := ⟨rfl, by decide, ⟨rfl, rfl, rfl⟩, ⟨rfl, rfl, rfl⟩, ⟨rfl, rfl, rfl⟩, ⟨rfl, rfl, rfl⟩, q1770, q1772, q612, q1773, q1774, q1775, q1777⟩
theorem pb_refv (u : RefV) : ∃ r : Option Nat, u.v = pb_cv (pb_q r) := by
  obtain ⟨v, hv⟩ := u
  cases v with
  | null => exact ⟨none, rfl⟩
  | ref a => exact ⟨some a, rfl⟩
  | _ => cases hv
section ROWS54
variable {G : pb_G} {M M2 : pb_M} {n C S n2 C2 S2 : Nat} {Q Q2 : pb_O → pb_H → Prop} {k u pc : Nat} {L : List (Option pb_V)} {st a rest : List pb_V} {h : pb_H}
theorem pb_Ex.superX {nx tg idx b ci : Nat} {cls : String} {T : u_T} (hw9 : pb_own ci cls T) (hi : pb_ig (pb_tb M) pc = some (.invokespecial idx, nx, tg)) (hl : Cond.methodLink (pb_cn M.1) idx (Bundle.init0 "java/lang/Exception") ∈ lw_all) (hK : pb_thS G) (hb9 : h.2 b = some (pb_ob ci [pb_0, pb_0, pb_0, pb_0, pb_0, pb_i 0, pb_i 0])) (hsm : pb_sm st = true) (hn6 : 6 ≤ n) (hC : k ≤ C) (hu : u ≤ S) (kk : ∀ r1 r2 : Option Nat, pb_Ex G M n C S Q k u nx L st (pb_set h b (pb_ob ci [pb_r b, pb_q r1, pb_q r2, pb_0, pb_0, pb_i 0, pb_i 0]))) : pb_Ex G M n C S Q k u pc L (pb_r b :: st) h := by
  intro p e R s m args below meth c X H locs ls hR hO hL hl9 hn
  have X' := X
  obtain ⟨hx, hb, hml, hrt, hlk, hnm, hown, hts, hHT, hSF, hAl, hRm, hT9, hsz⟩ := X
  obtain ⟨hd, rfl, hj⟩ := pb_ig_ok hT9 hi rfl
  have hs9 := pb_sm_ok hsm
  obtain ⟨w1, ⟨w15, w16⟩, wc, ws, wp, wb, w2, w3, w4, w5, w6, w7, w8⟩ := hw9
  obtain ⟨hcz, hab⟩ := hR.2.2 b _ hb9
  have hab : pb_b G ≤ b := hab (by show (!(ci == 15)) = true; simp [w15])
  obtain ⟨r, h1, h2, h3⟩ := hcz
  cases Option.some.inj (h1.symm.trans w1)
  obtain ⟨cell, c1, c2, c3, c4⟩ := h3
  obtain ⟨cell', d1, d2, d3⟩ := h2.2.resolve_left (fun z => z.elim w15 w16)
  cases Option.some.inj (d1.symm.trans c1)
  obtain ⟨k1, k2, k3, -, -⟩ := pb_cl_ok ci _ w1
  have hKs : va_K G.2.2.1 pb_cl [] s := va_K.moved hAl hSF.1
  have hap := va_apart (own := pb_cn M.1) (D := G.2.2.1) (cl := pb_cl) (tys := []) (ci := ci) hts k1 (pb_clty ci) k2 k3 hKs w1
  obtain ⟨hS, hfc⟩ := hKs.1 ci _ w1
  have kept : ∀ a : Nat, a < G.2.1.heap.size → ¬ False → H[a]? = G.2.1.heap[a]? := fun a ha _ => hO a ha
  intro W hW Xs
  subst hW
  have htr : e.platform.stackTraces = false := (show e.platform.stackTraces = G.1.stackTraces by rw [Xs.admits.platform]).trans (by unfold Launch.stackTraces; rw [hSF.2.2.1]; decide +kernel)
  have Y := vx_rebase Xs (R' := { frames := R.frames, locals := R.locals, cells := 0, slots := 0 }) (Nat.le_refl _) (Nat.le_refl _) (Nat.le_trans hC hRm.2.2.1) (Nat.le_trans hu hRm.2.2.2)
  obtain ⟨s', hA'⟩ : ∃ z, z = (W.setVm s.vm).setFrames (.invoking m args :: below) := ⟨_, rfl⟩
  rw [← hA'] at Y
  have hvm : s'.vm = s.vm := by rw [hA']; rfl
  have hhp : s'.heap = W.heap := by rw [hA']; rfl
  have hW0 : s.WarmedH s'.vm := by rw [hvm]; exact State.WarmedH.refl s
  have wd : ∀ w ∈ lw_all, vx_ot w = true → w.before args s' = true := fun w hw ho => vx_ot_at hW0 hvm.symm ho (hts w hw)
  have hU' : vx_Zq Bundle.tN "UNASSIGNED_STACK" Bundle.steD (fun _ => False) s' s'.heap := by rw [hhp]; exact vx_Zq.moved hW0.alike (vx_Zq.moved hAl (vx_Zq.kept hK.1 kept))
  have hN' : vx_Zq Bundle.tN "SUPPRESSED_SENTINEL" Bundle.listD (fun _ => False) s' s'.heap := by rw [hhp]; exact vx_Zq.moved hW0.alike (vx_Zq.moved hAl (vx_Zq.kept hK.2 kept))
  have hall : ∀ w ∈ Bundle.throwableAtoms ++ Bundle.chain0Atoms "java/lang/Exception" [], w.before args s' = true := vx_own (fun w hw => by
      have h9 := pb_filt (List.forall_mem_append.mpr ⟨pb_thA hSF hAl hts, pb_chE hSF hAl hts⟩) w hw
      exact vx_ot_at hW0 hvm.symm h9.2 h9.1) (vx_isRefq hU'.1) (vx_isRefq hN'.1) hU'.2.word hN'.2.word
  have hfd : ∀ nm d x, s'.fieldFound? Bundle.tN nm d = some x → s.fieldFound? Bundle.tN nm d = some x := by
    intro nm d x hx9
    have e9 : s'.fieldFound? Bundle.tN nm d = s.fieldFound? Bundle.tN nm d := by simp only [State.fieldFound?, hvm]
    rw [← e9]; exact hx9
  have slot : ∀ (j : Nat) nm d cf k9 i9 (f : Field), j < 7 → (T j).1 = "java/lang/Throwable" → (T j).2.1 = nm → (T j).2.2.1 = d → s'.fieldFound? Bundle.tN nm d = some (cf, k9, i9, f) → f.slot = G.2.2.1.2 ci j := by
    intro j nm d cf k9 i9 f hj e1 e2 e3 hf9
    obtain ⟨cf2, kf2, fi2, f2, hi2, hs2⟩ := hS j hj
    have hi2 : s.fieldFound? (T j).1 (T j).2.1 (T j).2.2.1 = some (cf2, kf2, fi2, f2) := hi2
    rw [e1, e2, e3] at hi2
    have h9 := hfd _ _ _ hf9
    cases Option.some.inj (hi2.symm.trans h9)
    exact hs2
  have e7 : pb_oN ci 7 = 7 := pb_oN_ne w15
  have val : ∀ j : Nat, j < 7 → cell.slots[G.2.2.1.2 ci j]? = some (vp_V ([pb_0, pb_0, pb_0, pb_0, pb_0, pb_i 0, pb_i 0].map pb_cv) j) := fun j hj => c4 j (by show j < pb_oN ci 7; rw [e7]; exact hj)
  obtain ⟨V, fC, fS, fP, u0, sen, L9, xC, xS, xP, Z, hVh, hLb, hfC, hfS, hfP, st⟩ := vx_super0 Y hx htr (own := pb_cn M.1) (cls := cls) (sup := "java/lang/Exception") (names := []) (ic := idx) (N := 7) (by rw [hvm]; exact hown) (by decide +kernel) (fun _ h9 => nomatch h9)
    (fun w hw => hall w (List.mem_append_left _ hw)) (fun w hw => hall w (List.mem_append_right _ hw)) (wd _ hl rfl) (wd _ w2 rfl) (wd _ w3 rfl) (wd _ w4 rfl) (wd _ w5 rfl) (wd _ w6 rfl) (wd _ w7 rfl) (wd _ w8 rfl)
    (vx_isRefq hU'.1) (vx_isRefq hN'.1) (wd _ q599 rfl) (wd _ q598 rfl) (fun x hx9 => nomatch hx9) (a := b) (cell := cell) (by rw [hvm, c2]; exact hfc.1) c1 c3 d2 d3
    (fun nm d cf k9 i9 f hf9 hc9 => by
      rcases hc9 with hc9 | hc9 | hc9 | hc9 <;> cases hc9
      · rw [slot 0 _ _ _ _ _ _ (by omega) wc.1 wc.2.1 wc.2.2 hf9]; exact val 0 (by omega)
      · rw [slot 1 _ _ _ _ _ _ (by omega) ws.1 ws.2.1 ws.2.2 hf9]; exact val 1 (by omega)
      · rw [slot 2 _ _ _ _ _ _ (by omega) wp.1 wp.2.1 wp.2.2 hf9]; exact val 2 (by omega)
      · rw [slot 4 _ _ _ _ _ _ (by omega) wb.1 wb.2.1 wb.2.2 hf9]; exact val 4 (by omega))
    (g := F0 m pc ls (pb_cv (pb_r b) :: st.map pb_cv)) rfl (hl9.1.trans hml.symm) (rest := st.map pb_cv) rfl (by rw [hb]; exact hd) (by show 0 + 3 < R.frames; omega) (by show 2 * 0 + _ + (13 * (0 + 1) + 41) ≤ R.locals; omega)
  subst hA'
  have X5 := vx_back9L Xs Y Z
  obtain ⟨r1, hr1⟩ := pb_refv u0
  obtain ⟨r2, hr2⟩ := pb_refv sen
  rw [slot 0 _ _ _ _ _ _ (by omega) wc.1 wc.2.1 wc.2.2 hfC, slot 1 _ _ _ _ _ _ (by omega) ws.1 ws.2.1 ws.2.2 hfS, slot 2 _ _ _ _ _ _ (by omega) wp.1 wp.2.1 wp.2.2 hfP, hr1, hr2] at X5 st
  have hlt : b < V.heap.size := by rw [hVh]; exact (Array.getElem?_eq_some_iff.mp c1).1
  have t1 := t_set (t_set (t_set (t_set (V := vp_V ([pb_0, pb_0, pb_0, pb_0, pb_0, pb_i 0, pb_i 0].map pb_cv)) val hap (k := 0) (by show 0 < 7; decide) (.ref b)) hap (k := 1) (by show 1 < 7; decide) (pb_cv (pb_q r1))) hap (k := 2) (by show 2 < 7; decide) (pb_cv (pb_q r2))) hap (k := 1) (by show 1 < 7; decide) (pb_cv (pb_q r1))
  obtain ⟨ce, hce⟩ : ∃ ce, ce = ((((cell.setSlot (G.2.2.1.2 ci 0) (.ref b)).setSlot (G.2.2.1.2 ci 1) (pb_cv (pb_q r1))).setSlot (G.2.2.1.2 ci 2) (pb_cv (pb_q r2))).setSlot (G.2.2.1.2 ci 1) (pb_cv (pb_q r1))) := ⟨_, rfl⟩
  have m1 : ce.monitor.owner = none := by rw [hce]; exact d2
  have m2 : ce.monitor.count = 0 := by rw [hce]; exact d3
  have m3 : ce.cls = G.2.2.1.1 ci := by rw [hce]; exact c2
  have m4 : ce.vm = .none := by rw [hce]; exact c3
  rw [← hce] at X5 st t1
  have oq : ∀ q : Nat, q ≠ b → (V.setCell b ce).heap[q]? = W.heap[q]? := fun q hq => by
    rw [heapAt_setCell_ne _ (Ne.symm hq), hVh]
  have oe : (V.setCell b ce).heap[b]? = some ce := heapAt_setCell_self ce hlt
  have cz : pb_cz G b (pb_ob ci [pb_r b, pb_q r1, pb_q r2, pb_0, pb_0, pb_i 0, pb_i 0]) (V.setCell b ce).heap := by
    refine ⟨_, w1, ⟨e7.symm, Or.inr ⟨ce, oe, m1, m2⟩⟩, ce, oe, m3, m4, fun j hj => ?_⟩
    have hj : j < pb_oN ci 7 := hj
    rw [e7] at hj
    rw [t1 j hj]
    have hj7 : j = 0 ∨ j = 1 ∨ j = 2 ∨ j = 3 ∨ j = 4 ∨ j = 5 ∨ j = 6 := by omega
    rcases hj7 with rfl | rfl | rfl | rfl | rfl | rfl | rfl <;> rfl
  obtain ⟨t, a1, b1⟩ := kk r1 r2 p e R s m args below meth c X' (V.setCell b ce).heap (locs ++ L9) ls (hR.set cz hab (by rw [size_setCell, hVh]) oq) (hO.set hab oq) (fun z hz => by
    rcases List.mem_append.mp hz with h9 | h9
    · exact hL z h9
    · rw [hLb z h9]; exact hab) hl9 hn (V.setCell b ce) rfl X5
  exact ⟨t, st t a1, b1⟩
end ROWS54
