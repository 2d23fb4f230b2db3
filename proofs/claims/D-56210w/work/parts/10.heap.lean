set_option maxRecDepth 100000
/-! CELLS AND THE WORLD -/
abbrev pb_C : Type := (Nat × Nat × (Nat → Int)) ⊕ (Nat × (Nat → Int)) ⊕ (Nat × (Nat → UInt64)) ⊕ (Nat × (Nat → Option Nat)) ⊕ (Nat × List pb_V)
/-- int (0), boolean (1), byte (4), char (5) arrays -/
abbrev pb_aI (k N : Nat) (g : Nat → Int) : pb_C := .inl (k, N, g)
abbrev pb_aJ (N : Nat) (g : Nat → Int) : pb_C := .inr (.inl (N, g))
abbrev pb_aD (N : Nat) (g : Nat → UInt64) : pb_C := .inr (.inr (.inl (N, g)))
abbrev pb_aR (N : Nat) (g : Nat → Option Nat) : pb_C := .inr (.inr (.inr (.inl (N, g))))
/-- an object: its class's number, its fields -/
abbrev pb_ob (ci : Nat) (fs : List pb_V) : pb_C := .inr (.inr (.inr (.inr (ci, fs))))
abbrev pb_H : Type := Nat × (Nat → Option pb_C)
/-- the launch, the law's own start, the classes' numbers, the array classes -/
abbrev pb_G : Type := Launch × State × va_G × (Nat → ClassId)
def pb_ty (k : Nat) : FieldType := match k with
  | 0 => .int
  | 1 => .boolean
  | 2 => .long
  | 3 => .double
  | 4 => .byte
  | 5 => .char
  | _ => .object "java/lang/Object"
def pb_cl : List vw_C := [(RX1, TX1, 8), (RX2, TX2, 7), (RX3, TX3, 1), (RX4, TX4, 24), (RX5, TX5, 4), (RX6, TX6, 6), (RX8, TX8, 2), (RX9, TX9, 7), (RX10, TX10, 4), (RX11, TX11, 4), (RX12, TX12, 2), (RX13, TX13, 7), (RJ2, TJ2, 3), (RJ4, TJ4, 3), (RJ6, TJ6, 4), (RJ7, TJ7, 4), (RX3, TX3, 1)]
def pb_clty (ci : Nat) : Nat → FieldType := match ci with
  | 0 => tyX1
  | 1 => tyX2
  | 2 => tyX3
  | 3 => tyX4
  | 4 => tyX5
  | 5 => tyX6
  | 6 => tyX8
  | 7 => tyX9
  | 8 => tyX10
  | 9 => tyX11
  | 10 => tyX12
  | 11 => tyX13
  | 12 => tyJ2
  | 13 => tyJ4
  | 14 => tyJ6
  | 15 => tyJ7
  | _ => tyX3
/-- what the tables say of a class of the list -/
def pb_clOK (ci : Nat) (r : vw_C) : Prop := (∀ w ∈ u_ws r.1 r.2.1 r.2.2, w ∈ lw_all) ∧ (∀ k, k < r.2.2 → parseFieldDescriptor (r.2.1 k).2.2.1 = some (pb_clty ci k)) ∧ (∀ a, a < r.2.2 → ∀ b, b < r.2.2 → a ≠ b → (r.2.1 a).2.1 ≠ (r.2.1 b).2.1) ∧ Cond.instantiable r.1 r.2.2 ∈ lw_all ∧ Cond.initialized r.1 ∈ lw_all
theorem pb_cl_ok : ∀ (ci : Nat) (r : vw_C), pb_cl[ci]? = some r → pb_clOK ci r
  | 0, _, h => by cases h; exact ⟨in_X1, tyX1_ok, nmX1, q118, q73⟩
  | 1, _, h => by cases h; exact ⟨in_X2, tyX2_ok, nmX2, q126, q74⟩
  | 2, _, h => by cases h; exact ⟨in_X3, tyX3_ok, nmX3, q191, q79⟩
  | 3, _, h => by cases h; exact ⟨in_X4, tyX4_ok, nmX4, q1896, q85⟩
  | 4, _, h => by cases h; exact ⟨in_X5, tyX5_ok, nmX5, q544, q86⟩
  | 5, _, h => by cases h; exact ⟨in_X6, tyX6_ok, nmX6, q420, q87⟩
  | 6, _, h => by cases h; exact ⟨in_X8, tyX8_ok, nmX8, q698, q103⟩
  | 7, _, h => by cases h; exact ⟨in_X9, tyX9_ok, nmX9, q757, q104⟩
  | 8, _, h => by cases h; exact ⟨in_X10, tyX10_ok, nmX10, q853, q105⟩
  | 9, _, h => by cases h; exact ⟨in_X11, tyX11_ok, nmX11, q298, q110⟩
  | 10, _, h => by cases h; exact ⟨in_X12, tyX12_ok, nmX12, q1732, q115⟩
  | 11, _, h => by cases h; exact ⟨in_X13, tyX13_ok, nmX13, q1770, q116⟩
  | 12, _, h => by cases h; exact ⟨in_J2, tyJ2_ok, nmJ2, q132, q77⟩
  | 13, _, h => by cases h; exact ⟨in_J4, tyJ4_ok, nmJ4, q197, q80⟩
  | 14, _, h => by cases h; exact ⟨in_J6, tyJ6_ok, nmJ6, q220, q82⟩
  | 15, _, h => by cases h; exact ⟨in_J7, tyJ7_ok, nmJ7, q1050, q83⟩
  | 16, _, h => by cases h; exact ⟨in_X3, tyX3_ok, nmX3, q191, q79⟩
  | k + 17, _, h => by simp [pb_cl] at h

/-- the start: the tables' words, the premises, the classes -/
def pb_SF (G : pb_G) : Prop := va_K G.2.2.1 pb_cl [] G.2.1 ∧ (∀ k, k < 7 → ArrOfT G.2.1 (G.2.2.2 k) (pb_ty k) ∧ va_RA G.2.1 (G.2.2.2 k) (pb_ty k)) ∧ G.1.flags = flags0 ∧ ∃ b : Nat, (∀ w ∈ lw_tbl, w.before #[Value.ref b] G.2.1 = true) ∧ (Jvm.Cond.and given_1 narrow_1).before #[Value.ref b] G.2.1 = true
abbrev pb_b (G : pb_G) : Nat := G.2.1.heap.size
/-- how many of an object's fields are told: of a String only value and coder -/
def pb_oN (ci N : Nat) : Nat := match ci with
  | 15 => 2
  | _ => N
theorem pb_oN_ne {ci N : Nat} (h : ci ≠ 15) : pb_oN ci N = N := by
  unfold pb_oN
  split
  · exact absurd rfl h
  · rfl
theorem pb_oN_le {ci : Nat} {r : vw_C} (h : pb_cl[ci]? = some r) : pb_oN ci r.2.2 ≤ r.2.2 := by
  by_cases e : ci = 15
  · subst e
    cases h
    decide
  · rw [pb_oN_ne e]
    exact Nat.le_refl _
theorem pb_OBle {o : Nat} {cC : ClassId} {N N' : Nat} {iS : Nat → Nat} {H : Heap} {V : Nat → Value} (h : t_OB o cC N iS H V) (hl : N' ≤ N) : t_OB o cC N' iS H V := by
  obtain ⟨cell, q1, q2, q3, q4⟩ := h
  exact ⟨cell, q1, q2, q3, fun k hk => q4 k (Nat.lt_of_lt_of_le hk hl)⟩
/-- nobody holds the object's monitor (class 16: a History whose method runs: nothing is said) -/
def pb_mon (ci a : Nat) (H : Heap) : Prop := (ci = 15 ∨ ci = 16) ∨ ∃ cell : Cell, H[a]? = some cell ∧ cell.monitor.owner = none ∧ cell.monitor.count = 0
def pb_cz (G : pb_G) (a : Nat) (x : pb_C) (H : Heap) : Prop := match x with
  | .inl (k, N, g) => (k = 0 ∨ k = 1 ∨ k = 4 ∨ k = 5) ∧ N < 2147483648 ∧ H[a]? = some (arrV (G.2.2.2 k) N (fun j => .int (pb_I (g j))))
  | .inr (.inl (N, g)) => N < 2147483648 ∧ H[a]? = some (arrV (G.2.2.2 2) N (fun j => .long (pb_J (g j))))
  | .inr (.inr (.inl (N, g))) => N < 2147483648 ∧ H[a]? = some (arrV (G.2.2.2 3) N (fun j => .double (g j)))
  | .inr (.inr (.inr (.inl (N, g)))) => N < 2147483648 ∧ H[a]? = some (arrV (G.2.2.2 6) N (fun j => va_rf (g j)))
  | .inr (.inr (.inr (.inr (ci, fs)))) => ∃ r : vw_C, pb_cl[ci]? = some r ∧ (fs.length = pb_oN ci r.2.2 ∧ pb_mon ci a H) ∧ t_OB a (G.2.2.1.1 ci) (pb_oN ci r.2.2) (G.2.2.1.2 ci) H (vp_V (fs.map pb_cv))
/-- cells of these kinds are none that stood before the law: they may be written -/
def pb_wr (x : pb_C) : Bool := match x with
  | .inl (k, _, _) => !(k == 4)
  | .inr (.inr (.inr (.inl (N, _)))) => !(N == 0)
  | .inr (.inr (.inr (.inr (ci, _)))) => !(ci == 15)
  | _ => true
def pb_Rep (G : pb_G) (h : pb_H) (H : Heap) : Prop := H.size = h.1 ∧ pb_b G ≤ h.1 ∧ ∀ (a : Nat) (x : pb_C), h.2 a = some x → pb_cz G a x H ∧ (pb_wr x = true → pb_b G ≤ a)
def pb_Old (G : pb_G) (H : Heap) : Prop := ∀ q : Nat, q < pb_b G → H[q]? = G.2.1.heap[q]?
def pb_set (h : pb_H) (a : Nat) (x : pb_C) : pb_H := (h.1, fun b => if b = a then some x else h.2 b)
/-- a new cell at the heap's end -/
def pb_new (h : pb_H) (x : pb_C) : pb_H := (h.1 + 1, fun b => if b = h.1 then some x else h.2 b)
theorem pb_set_same {h : pb_H} {a : Nat} {x : pb_C} : (pb_set h a x).2 a = some x := if_pos rfl
theorem pb_set_ne {h : pb_H} {a b : Nat} {x : pb_C} (n : b ≠ a) : (pb_set h a x).2 b = h.2 b := if_neg n
theorem pb_new_same {h : pb_H} {x : pb_C} : (pb_new h x).2 h.1 = some x := if_pos rfl
theorem pb_new_ne {h : pb_H} {b : Nat} {x : pb_C} (n : b ≠ h.1) : (pb_new h x).2 b = h.2 b := if_neg n
theorem pb_cz.kept {G : pb_G} {a : Nat} {x : pb_C} {H H1 : Heap} (h : pb_cz G a x H) (e : H1[a]? = H[a]?) : pb_cz G a x H1 := by
  rcases x with ⟨k, N, g⟩ | ⟨N, g⟩ | ⟨N, g⟩ | ⟨N, g⟩ | ⟨ci, fs⟩
  · exact ⟨h.1, h.2.1, e.trans h.2.2⟩
  · exact ⟨h.1, e.trans h.2⟩
  · exact ⟨h.1, e.trans h.2⟩
  · exact ⟨h.1, e.trans h.2⟩
  · obtain ⟨r, h1, ⟨h2, h4⟩, h3⟩ := h
    refine ⟨r, h1, ⟨h2, ?_⟩, h3.kept e⟩
    rcases h4 with h4 | ⟨cell, h5, h6⟩
    · exact Or.inl h4
    · exact Or.inr ⟨cell, e.trans h5, h6⟩
theorem pb_cz.lt {G : pb_G} {a : Nat} {x : pb_C} {H : Heap} (h : pb_cz G a x H) : a < H.size := by
  rcases x with ⟨k, N, g⟩ | ⟨N, g⟩ | ⟨N, g⟩ | ⟨N, g⟩ | ⟨ci, fs⟩
  · exact (Array.getElem?_eq_some_iff.mp h.2.2).1
  · exact (Array.getElem?_eq_some_iff.mp h.2).1
  · exact (Array.getElem?_eq_some_iff.mp h.2).1
  · exact (Array.getElem?_eq_some_iff.mp h.2).1
  · obtain ⟨r, h1, h2, cell, h3, -⟩ := h
    exact (Array.getElem?_eq_some_iff.mp h3).1
theorem pb_Rep.lt {G : pb_G} {h : pb_H} {H : Heap} (hR : pb_Rep G h H) {a : Nat} {x : pb_C} (hx : h.2 a = some x) : a < h.1 := by
  rw [← hR.1]
  exact (hR.2.2 a x hx).1.lt
theorem pb_Rep.set {G : pb_G} {h : pb_H} {H H1 : Heap} (hR : pb_Rep G h H) {a : Nat} {y : pb_C} (hc : pb_cz G a y H1) (hb : pb_b G ≤ a) (hz : H1.size = H.size) (oq : ∀ q : Nat, q ≠ a → H1[q]? = H[q]?) : pb_Rep G (pb_set h a y) H1 := by
  refine ⟨hz.trans hR.1, hR.2.1, fun b x hx => ?_⟩
  by_cases e : b = a
  · subst e
    rw [pb_set_same] at hx
    cases hx
    exact ⟨hc, fun _ => hb⟩
  · rw [pb_set_ne e] at hx
    obtain ⟨h1, h2⟩ := hR.2.2 b x hx
    exact ⟨h1.kept (oq b e), h2⟩
theorem pb_Old.set {G : pb_G} {H H1 : Heap} (h : pb_Old G H) {a : Nat} (hb : pb_b G ≤ a) (oq : ∀ q : Nat, q ≠ a → H1[q]? = H[q]?) : pb_Old G H1 := fun q hq => (oq q (fun e => by omega)).trans (h q hq)
theorem pb_Rep.push {G : pb_G} {h : pb_H} {H H1 : Heap} (hR : pb_Rep G h H) {y : pb_C} (hc : pb_cz G h.1 y H1) (hz : H1.size = H.size + 1) (oq : ∀ q : Nat, q < H.size → H1[q]? = H[q]?) : pb_Rep G (pb_new h y) H1 := by
  refine ⟨hz.trans (by rw [hR.1]; rfl), Nat.le_succ_of_le hR.2.1, fun b x hx => ?_⟩
  by_cases e : b = h.1
  · subst e
    rw [pb_new_same] at hx
    cases hx
    exact ⟨hc, fun _ => hR.2.1⟩
  · rw [pb_new_ne e] at hx
    obtain ⟨h1, h2⟩ := hR.2.2 b x hx
    exact ⟨h1.kept (oq b h1.lt), h2⟩
theorem pb_Old.push {G : pb_G} {h : pb_H} {H H1 : Heap} (hO : pb_Old G H) (hR : pb_Rep G h H) (oq : ∀ q : Nat, q < H.size → H1[q]? = H[q]?) : pb_Old G H1 := fun q hq => (oq q (by rw [hR.1]; exact Nat.lt_of_lt_of_le hq hR.2.1)).trans (hO q hq)
/-! METHODS -/
/-- a method: its class's number, name, code, locals, answer, handlers, decoded code -/
abbrev pb_M : Type := Nat × MethodName × ByteArray × Nat × Option FieldType × Option (List (Nat × Nat × Nat × Nat)) × pb_T
abbrev pb_ml (M : pb_M) : Nat := M.2.2.2.1
abbrev pb_cd (M : pb_M) : ByteArray := M.2.2.1
abbrev pb_tb (M : pb_M) : pb_T := M.2.2.2.2.2.2
def pb_ws (M : pb_M) : List Cond := match M.2.2.2.2.2.1 with
  | none => ws_ M.2.1 M.2.2.1 M.2.2.2.1 M.2.2.2.2.1
  | some hh => wsW_ M.2.1 M.2.2.1 M.2.2.2.1 M.2.2.2.2.1 hh
/-- how a method ends: it returns, or it throws (the class, the object) -/
abbrev pb_O : Type := Option pb_V ⊕ (String × Nat)
def pb_Qc (G : pb_G) (Q : pb_O → pb_H → Prop) : Array Value → State → Outcome → State → Prop := fun _ _ o t => ∃ (v : Option pb_V) (h : pb_H), o = .returned (v.map pb_cv) ∧ Q (.inl v) h ∧ pb_Rep G h t.heap ∧ pb_Old G t.heap
def pb_XC (G : pb_G) (Q : pb_O → pb_H → Prop) : String → Addr → State → State → Prop := fun E q _ t => ∃ h : pb_H, Q (.inr (E, q)) h ∧ pb_Rep G h t.heap ∧ pb_Old G t.heap
def pb_Pc (G : pb_G) (a : List pb_V) (h : pb_H) : Array Value → State → Prop := fun v U => v = (a.map pb_cv).toArray ∧ pb_SF G ∧ G.2.1.vm.Alike U.vm ∧ pb_Rep G h U.heap ∧ pb_Old G U.heap ∧ G.2.1.WarmedH U.vm
def pb_room (n C S : Nat) : Room := { frames := n, cells := C, slots := S, locals := 40 * n }
/-- A CONTRACT: called with a in the world h, the method ends as Q says; at most C cells, S slots, n frames are used -/
def pb_Ctr (G : pb_G) (M : pb_M) (n C S : Nat) (a : List pb_V) (h : pb_H) (Q : pb_O → pb_H → Prop) : Prop := vx_Met G.1 M.2.1 (pb_ws M) (pb_room n C S) (pb_Pc G a h) (pb_Qc G Q) (pb_XC G Q) C S (fun q => pb_b G ≤ q)
theorem pb_blind {G : pb_G} {a : List pb_V} {h : pb_H} : FrameBlind (pb_Pc G a h) := fun _ _ _ _ q => q
