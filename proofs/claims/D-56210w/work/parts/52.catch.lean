set_option maxRecDepth 100000
/-! CATCHING -/
/-- E is no nm: known at the start -/
def pb_nc (G : pb_G) (E nm : String) : Prop := va_Nc E nm G.2.1
abbrev pb_Z : Type := Nat × Nat × Nat × Nat
/-- a row of the table that does not take an E thrown at pc -/
def pb_pass (G : pb_G) (M : pb_M) (pc : Nat) (E : String) (z : pb_Z) : Prop := ¬ (z.1 ≤ pc ∧ pc < z.2.1) ∨ (z.2.2.2 ≠ 0 ∧ ∃ nm, pb_lkS (pb_ct M.1) z.2.2.2 = some nm ∧ pb_nc G E nm)
theorem pb_cov {z : pb_Z} {pc : Nat} : covers (⟨z.1, z.2.1, z.2.2.1, z.2.2.2⟩ : ExceptionTableEntry) pc = (decide (z.1 ≤ pc) && decide (pc < z.2.1)) := rfl
section ROWS52
variable {G : pb_G} {M M2 : pb_M} {n C S n2 C2 S2 : Nat} {Q Q2 : pb_O → pb_H → Prop} {k u pc : Nat} {L : List (Option pb_V)} {st a rest : List pb_V} {h : pb_H}
theorem pb_passes {p : Program} {R : Room} {s : State} {m : MethodId} {args : Array Value} {meth : Method} {c : Code} (X : pb_Cx G M n C S p R s m args meth c) {E : String} {z : pb_Z} (hz : pb_pass G M pc E z) : covers (⟨z.1, z.2.1, z.2.2.1, z.2.2.2⟩ : ExceptionTableEntry) pc = false ∨ (z.2.2.2 ≠ 0 ∧ ∃ nm : String, (Cond.classLink (pb_cn M.1) z.2.2.2 nm).before args s = true ∧ va_Nc E nm s) := by
  obtain ⟨hx, hb, hml, hrt, hlk, hnm, hown, hts, hHT, hSF, hAl, hRm, hT, hsz⟩ := X
  rcases hz with h1 | ⟨h1, nm, h2, h3⟩
  · refine Or.inl ?_
    rw [pb_cov]
    by_cases a1 : z.1 ≤ pc
    · have : ¬ pc < z.2.1 := fun q => h1 ⟨a1, q⟩
      simp [this]
    · simp [a1]
  · exact Or.inr ⟨h1, nm, hts _ (pb_lkc h2), va_Nc.moved hAl h3⟩
theorem pb_tabH {p : Program} {R : Room} {s : State} {m : MethodId} {args : Array Value} {meth : Method} {c : Code} (X : pb_Cx G M n C S p R s m args meth c) {hh : List pb_Z} (hM : M.2.2.2.2.2.1 = some hh) : c.exceptionTable.toList = hh.map fun q => ⟨q.1, q.2.1, q.2.2.1, q.2.2.2⟩ := by
  obtain ⟨hx, hb, hml, hrt, hlk, hnm, hown, hts, hHT, hSF, hAl, hRm, hT, hsz⟩ := X
  unfold pb_HT at hHT
  rw [hM] at hHT
  exact hHT
/-- caught by the row x -/
theorem pb_Xx.catch {E nm : String} {q : Nat} (pre : List pb_Z) (x : pb_Z) (suf : List pb_Z) (hM : M.2.2.2.2.2.1 = some (pre ++ x :: suf)) (hp : ∀ z ∈ pre, pb_pass G M pc E z) (hx9 : x.1 ≤ pc ∧ pc < x.2.1) (h0 : x.2.2.2 ≠ 0) (hl : pb_lkS (pb_ct M.1) x.2.2.2 = some nm) (hcst : Cond.castable E nm ∈ lw_tbl) (kk : pb_Ex G M n C S Q k u x.2.2.1 L [pb_r q] h) : pb_Xx G M n C S Q k u pc L E q h := by
  intro p e R s m args below meth c X H locs ls ce rest hR hO hL hl9 hn h1 h2 h3
  have X' := X
  have htab := pb_tabH X hM
  obtain ⟨hx, hb, hml, hrt, hlk, hnm, hown, hts, hHT, hSF, hAl, hRm, hT, hsz⟩ := X
  rw [List.map_append, List.map_cons] at htab
  refine vx_catch (E := E) (name := nm) hown _ _ _ htab (fun z hz => ?_) ?_ h0 (hts _ (pb_lkc hl)) (pb_cstb hSF hAl hcst) h1 h2 h3 (kk p e R s m args below meth c X' H locs ls hR hO hL hl9 hn)
  · obtain ⟨z9, hz9, rfl⟩ := List.mem_map.mp hz
    exact pb_passes X' (hp z9 hz9)
  · rw [pb_cov]
    simp [hx9.1, hx9.2]
/-- past all rows -/
theorem pb_Xx.outP {E : String} {q : Nat} {hh : List pb_Z} (hM : M.2.2.2.2.2.1 = some hh) (hp : ∀ z ∈ hh, pb_pass G M pc E z) (hk : k ≤ C) (hu : u ≤ S) (hq : Q (.inr (E, q)) h) : pb_Xx G M n C S Q k u pc L E q h := by
  intro p e R s m args below meth c X H locs ls ce rest hR hO hL hl hn h1 h2 h3
  have X' := X
  have htab := pb_tabH X hM
  obtain ⟨hx, hb, hml, hrt, hlk, hnm, hown, hts, hHT, hSF, hAl, hRm, hT, hsz⟩ := X
  refine vx_outP hown hlk (fun z hz => ?_) h1 h2 h3 (fun t ht hal => ⟨h, hq, by rw [ht]; exact hR, by rw [ht]; exact hO⟩) hL hk hu
  rw [htab] at hz
  obtain ⟨z9, hz9, rfl⟩ := List.mem_map.mp hz
  exact pb_passes X' (hp z9 hz9)
/-- what was made and then thrown -/
theorem pb_Ex.athrow {nx tg q : Nat} {E : String} (hi : pb_ig (pb_tb M) pc = some (.athrow, nx, tg)) (hq : ∀ (s : State) (H : Heap), pb_SF G → G.2.1.vm.Alike s.vm → pb_Rep G h H → ∃ ce, H[q]? = some ce ∧ ce.vm = .none ∧ s.vm.findClass E = some ce.cls) (kk : pb_Xx G M n C S Q k u pc L E q h) : pb_Ex G M n C S Q k u pc L (pb_r q :: st) h := by
  intro p e R s m args below meth c X H locs ls hR hO hL hl hn
  have X' := X
  obtain ⟨hx, hb, hml, hrt, hlk, hnm, hown, hts, hHT, hSF, hAl, hRm, hT, hsz⟩ := X
  obtain ⟨hd, rfl, hj⟩ := pb_ig_ok hT hi rfl
  obtain ⟨ce, h1, h2, h3⟩ := hq s H hSF hAl hR
  exact vx_athrow hx hb hd (kk p e R s m args below meth c X' H locs ls ce _ hR hO hL hl hn h1 h2 h3)
end ROWS52
