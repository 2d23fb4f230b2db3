set_option maxRecDepth 100000
/-! THROWING THE JDK'S EXCEPTIONS -/
theorem pb_decl {G : pb_G} {s : State} {args : Array Value} (hSF : pb_SF G) (hAl : G.2.1.vm.Alike s.vm) {x : MethodName} (hw : Cond.declares x ∈ lw_tbl) : (Cond.declares x).before args s = true := by
  obtain ⟨A, h1⟩ := pb_tbl (s := s) hSF hw
  have h2 : (Cond.declares x).before args (G.2.1.setVm s.vm) = true := by
    rw [Cond.declares_setVm hAl]
    exact va_tabs rfl rfl h1
  exact va_tabs rfl (rfl : (G.2.1.setVm s.vm).vm = s.vm) h2
theorem pb_cstb {G : pb_G} {s : State} {args : Array Value} (hSF : pb_SF G) (hAl : G.2.1.vm.Alike s.vm) {x y : String} (hw : Cond.castable x y ∈ lw_tbl) : (Cond.castable x y).before args s = true := by
  obtain ⟨A, h1⟩ := pb_tbl (s := s) hSF hw
  have h2 : (Cond.castable x y).before args (G.2.1.setVm s.vm) = true := by
    rw [Cond.castable_setVm hAl]
    exact va_tabs rfl rfl h1
  exact va_tabs rfl (rfl : (G.2.1.setVm s.vm).vm = s.vm) h2
section TH
variable {G : pb_G} {s : State} {args : Array Value}
/-- what a word of a throw owes -/
def pb_pw (args : Array Value) (s : State) (w : Cond) : Prop := vx_no w = true → w.before args s = true ∧ vx_ot w = true
theorem pb_thA (hSF : pb_SF G) (hAl : G.2.1.vm.Alike s.vm) (hts : ∀ w ∈ lw_all, w.before args s = true) : ∀ w ∈ Bundle.throwableAtoms, pb_pw args s w := List.forall_mem_cons.mpr ⟨(fun _ => ⟨hts _ q97, rfl⟩), List.forall_mem_cons.mpr ⟨(fun _ => ⟨hts _ q600, rfl⟩), List.forall_mem_cons.mpr ⟨(fun _ => ⟨hts _ q609, rfl⟩), List.forall_mem_cons.mpr ⟨(fun _ => ⟨hts _ q620, rfl⟩), List.forall_mem_cons.mpr ⟨(fun _ => ⟨hts _ q623, rfl⟩), List.forall_mem_cons.mpr ⟨(fun _ => ⟨hts _ q625, rfl⟩), List.forall_mem_cons.mpr ⟨(fun _ => ⟨hts _ q601, rfl⟩), List.forall_mem_cons.mpr ⟨(fun _ => ⟨hts _ q602, rfl⟩), List.forall_mem_cons.mpr ⟨(fun _ => ⟨hts _ q123, rfl⟩), List.forall_mem_cons.mpr ⟨(fun _ => ⟨hts _ q124, rfl⟩), List.forall_mem_cons.mpr ⟨(fun _ => ⟨hts _ q603, rfl⟩), List.forall_mem_cons.mpr ⟨(fun _ => ⟨hts _ q608, rfl⟩), List.forall_mem_cons.mpr ⟨(fun _ => ⟨hts _ q621, rfl⟩), List.forall_mem_cons.mpr ⟨(fun _ => ⟨hts _ q638, rfl⟩), List.forall_mem_cons.mpr ⟨(fun _ => ⟨hts _ q590, rfl⟩), List.forall_mem_cons.mpr ⟨(fun _ => ⟨hts _ q639, rfl⟩), List.forall_mem_cons.mpr ⟨(fun _ => ⟨hts _ q592, rfl⟩), List.forall_mem_cons.mpr ⟨(fun _ => ⟨hts _ q640, rfl⟩), List.forall_mem_cons.mpr ⟨(fun _ => ⟨hts _ q594, rfl⟩), List.forall_mem_cons.mpr ⟨(fun _ => ⟨hts _ q604, rfl⟩), List.forall_mem_cons.mpr ⟨(fun h9 => absurd h9 (by simp [vx_no])), List.forall_mem_cons.mpr ⟨(fun _ => ⟨hts _ q606, rfl⟩), List.forall_mem_cons.mpr ⟨(fun h9 => absurd h9 (by simp [vx_no])), List.forall_mem_cons.mpr ⟨(fun _ => ⟨hts _ q596, rfl⟩), fun _ h => absurd h List.not_mem_nil⟩⟩⟩⟩⟩⟩⟩⟩⟩⟩⟩⟩⟩⟩⟩⟩⟩⟩⟩⟩⟩⟩⟩⟩
theorem pb_chE (hSF : pb_SF G) (hAl : G.2.1.vm.Alike s.vm) (hts : ∀ w ∈ lw_all, w.before args s = true) : ∀ w ∈ Bundle.chain0Atoms "java/lang/Exception" [], pb_pw args s w := List.forall_mem_cons.mpr ⟨(fun _ => ⟨hts _ q633, rfl⟩), List.forall_mem_cons.mpr ⟨(fun _ => ⟨hts _ q634, rfl⟩), List.forall_mem_cons.mpr ⟨(fun _ => ⟨hts _ q635, rfl⟩), List.forall_mem_cons.mpr ⟨(fun _ => ⟨hts _ q601, rfl⟩), List.forall_mem_cons.mpr ⟨(fun _ => ⟨pb_decl hSF hAl q585, rfl⟩), fun _ h => absurd h List.not_mem_nil⟩⟩⟩⟩⟩
theorem pb_chR (hSF : pb_SF G) (hAl : G.2.1.vm.Alike s.vm) (hts : ∀ w ∈ lw_all, w.before args s = true) : ∀ w ∈ Bundle.chain0Atoms "java/lang/RuntimeException" ["java/lang/Exception"], pb_pw args s w := List.forall_mem_append.mpr ⟨List.forall_mem_cons.mpr ⟨(fun _ => ⟨hts _ q630, rfl⟩), List.forall_mem_cons.mpr ⟨(fun _ => ⟨hts _ q631, rfl⟩), List.forall_mem_cons.mpr ⟨(fun _ => ⟨hts _ q632, rfl⟩), List.forall_mem_cons.mpr ⟨(fun _ => ⟨hts _ q633, rfl⟩), List.forall_mem_cons.mpr ⟨(fun _ => ⟨pb_decl hSF hAl q583, rfl⟩), fun _ h => absurd h List.not_mem_nil⟩⟩⟩⟩⟩, pb_chE hSF hAl hts⟩
/-- an exception that can be thrown -/
def pb_exc (X : String) : Prop := Bundle.fit X = true ∧ Cond.initialized X ∈ lw_all ∧ ∀ (G : pb_G) (s : State) (args : Array Value), pb_SF G → G.2.1.vm.Alike s.vm → (∀ w ∈ lw_all, w.before args s = true) → ∀ (own : String) (ic : Nat), Cond.methodLink own ic (Bundle.init0 X) ∈ lw_all → ∀ w ∈ vx_at0 own ic X ["java/lang/RuntimeException", "java/lang/Exception"], w.before args s = true ∧ vx_ot w = true
theorem pb_filt {L : List Cond} (h : ∀ w ∈ L, pb_pw args s w) : ∀ w ∈ L.filter vx_no, w.before args s = true ∧ vx_ot w = true := fun w hw => h w (List.mem_filter.mp hw).1 (List.mem_filter.mp hw).2
theorem pb_xISE : pb_exc "java/lang/IllegalStateException" := by
  refine ⟨by decide +kernel, q100, fun G s args hSF hAl hts own ic hl => pb_filt ?_⟩
  refine List.forall_mem_append.mpr ⟨List.forall_mem_append.mpr ⟨pb_thA hSF hAl hts, List.forall_mem_append.mpr ⟨List.forall_mem_cons.mpr ⟨(fun _ => ⟨hts _ q627, rfl⟩), List.forall_mem_cons.mpr ⟨(fun _ => ⟨hts _ q628, rfl⟩), List.forall_mem_cons.mpr ⟨(fun _ => ⟨hts _ q629, rfl⟩), List.forall_mem_cons.mpr ⟨(fun _ => ⟨hts _ q630, rfl⟩), List.forall_mem_cons.mpr ⟨(fun _ => ⟨pb_decl hSF hAl q581, rfl⟩), fun _ h => absurd h List.not_mem_nil⟩⟩⟩⟩⟩, pb_chR hSF hAl hts⟩⟩, ?_⟩
  exact List.forall_mem_cons.mpr ⟨(fun _ => ⟨hts _ hl, rfl⟩), List.forall_mem_cons.mpr ⟨(fun _ => ⟨hts _ q579, rfl⟩), List.forall_mem_cons.mpr ⟨(fun _ => ⟨pb_cstb hSF hAl q580, rfl⟩), List.forall_mem_cons.mpr ⟨(fun _ => ⟨hts _ q587, rfl⟩), List.forall_mem_cons.mpr ⟨(fun _ => ⟨hts _ q588, rfl⟩), List.forall_mem_cons.mpr ⟨(fun _ => ⟨hts _ q589, rfl⟩), List.forall_mem_cons.mpr ⟨(fun _ => ⟨hts _ q591, rfl⟩), List.forall_mem_cons.mpr ⟨(fun _ => ⟨hts _ q593, rfl⟩), List.forall_mem_cons.mpr ⟨(fun _ => ⟨hts _ q595, rfl⟩), List.forall_mem_cons.mpr ⟨(fun h9 => absurd h9 (by simp [vx_no])), List.forall_mem_cons.mpr ⟨(fun h9 => absurd h9 (by simp [vx_no])), List.forall_mem_cons.mpr ⟨(fun _ => ⟨hts _ q599, rfl⟩), List.forall_mem_cons.mpr ⟨(fun _ => ⟨hts _ q598, rfl⟩), List.forall_mem_cons.mpr ⟨(fun _ => ⟨hts _ q597, rfl⟩), fun _ h => absurd h List.not_mem_nil⟩⟩⟩⟩⟩⟩⟩⟩⟩⟩⟩⟩⟩⟩
theorem pb_xIOB : pb_exc "java/lang/IndexOutOfBoundsException" := by
  refine ⟨by decide +kernel, q101, fun G s args hSF hAl hts own ic hl => pb_filt ?_⟩
  refine List.forall_mem_append.mpr ⟨List.forall_mem_append.mpr ⟨pb_thA hSF hAl hts, List.forall_mem_append.mpr ⟨List.forall_mem_cons.mpr ⟨(fun _ => ⟨hts _ q674, rfl⟩), List.forall_mem_cons.mpr ⟨(fun _ => ⟨hts _ q675, rfl⟩), List.forall_mem_cons.mpr ⟨(fun _ => ⟨hts _ q676, rfl⟩), List.forall_mem_cons.mpr ⟨(fun _ => ⟨hts _ q630, rfl⟩), List.forall_mem_cons.mpr ⟨(fun _ => ⟨pb_decl hSF hAl q581, rfl⟩), fun _ h => absurd h List.not_mem_nil⟩⟩⟩⟩⟩, pb_chR hSF hAl hts⟩⟩, ?_⟩
  exact List.forall_mem_cons.mpr ⟨(fun _ => ⟨hts _ hl, rfl⟩), List.forall_mem_cons.mpr ⟨(fun _ => ⟨hts _ q665, rfl⟩), List.forall_mem_cons.mpr ⟨(fun _ => ⟨pb_cstb hSF hAl q666, rfl⟩), List.forall_mem_cons.mpr ⟨(fun _ => ⟨hts _ q667, rfl⟩), List.forall_mem_cons.mpr ⟨(fun _ => ⟨hts _ q616, rfl⟩), List.forall_mem_cons.mpr ⟨(fun _ => ⟨hts _ q668, rfl⟩), List.forall_mem_cons.mpr ⟨(fun _ => ⟨hts _ q669, rfl⟩), List.forall_mem_cons.mpr ⟨(fun _ => ⟨hts _ q670, rfl⟩), List.forall_mem_cons.mpr ⟨(fun _ => ⟨hts _ q671, rfl⟩), List.forall_mem_cons.mpr ⟨(fun h9 => absurd h9 (by simp [vx_no])), List.forall_mem_cons.mpr ⟨(fun h9 => absurd h9 (by simp [vx_no])), List.forall_mem_cons.mpr ⟨(fun _ => ⟨hts _ q599, rfl⟩), List.forall_mem_cons.mpr ⟨(fun _ => ⟨hts _ q598, rfl⟩), List.forall_mem_cons.mpr ⟨(fun _ => ⟨hts _ q672, rfl⟩), fun _ h => absurd h List.not_mem_nil⟩⟩⟩⟩⟩⟩⟩⟩⟩⟩⟩⟩⟩⟩
theorem pb_xIAE : pb_exc "java/lang/IllegalArgumentException" := by
  refine ⟨by decide +kernel, q102, fun G s args hSF hAl hts own ic hl => pb_filt ?_⟩
  refine List.forall_mem_append.mpr ⟨List.forall_mem_append.mpr ⟨pb_thA hSF hAl hts, List.forall_mem_append.mpr ⟨List.forall_mem_cons.mpr ⟨(fun _ => ⟨hts _ q692, rfl⟩), List.forall_mem_cons.mpr ⟨(fun _ => ⟨hts _ q693, rfl⟩), List.forall_mem_cons.mpr ⟨(fun _ => ⟨hts _ q694, rfl⟩), List.forall_mem_cons.mpr ⟨(fun _ => ⟨hts _ q630, rfl⟩), List.forall_mem_cons.mpr ⟨(fun _ => ⟨pb_decl hSF hAl q581, rfl⟩), fun _ h => absurd h List.not_mem_nil⟩⟩⟩⟩⟩, pb_chR hSF hAl hts⟩⟩, ?_⟩
  exact List.forall_mem_cons.mpr ⟨(fun _ => ⟨hts _ hl, rfl⟩), List.forall_mem_cons.mpr ⟨(fun _ => ⟨hts _ q683, rfl⟩), List.forall_mem_cons.mpr ⟨(fun _ => ⟨pb_cstb hSF hAl q684, rfl⟩), List.forall_mem_cons.mpr ⟨(fun _ => ⟨hts _ q685, rfl⟩), List.forall_mem_cons.mpr ⟨(fun _ => ⟨hts _ q615, rfl⟩), List.forall_mem_cons.mpr ⟨(fun _ => ⟨hts _ q686, rfl⟩), List.forall_mem_cons.mpr ⟨(fun _ => ⟨hts _ q687, rfl⟩), List.forall_mem_cons.mpr ⟨(fun _ => ⟨hts _ q688, rfl⟩), List.forall_mem_cons.mpr ⟨(fun _ => ⟨hts _ q689, rfl⟩), List.forall_mem_cons.mpr ⟨(fun h9 => absurd h9 (by simp [vx_no])), List.forall_mem_cons.mpr ⟨(fun h9 => absurd h9 (by simp [vx_no])), List.forall_mem_cons.mpr ⟨(fun _ => ⟨hts _ q599, rfl⟩), List.forall_mem_cons.mpr ⟨(fun _ => ⟨hts _ q598, rfl⟩), List.forall_mem_cons.mpr ⟨(fun _ => ⟨hts _ q690, rfl⟩), fun _ h => absurd h List.not_mem_nil⟩⟩⟩⟩⟩⟩⟩⟩⟩⟩⟩⟩⟩⟩
theorem pb_xUOE : pb_exc "java/lang/UnsupportedOperationException" := by
  refine ⟨by decide +kernel, q108, fun G s args hSF hAl hts own ic hl => pb_filt ?_⟩
  refine List.forall_mem_append.mpr ⟨List.forall_mem_append.mpr ⟨pb_thA hSF hAl hts, List.forall_mem_append.mpr ⟨List.forall_mem_cons.mpr ⟨(fun _ => ⟨hts _ q1023, rfl⟩), List.forall_mem_cons.mpr ⟨(fun _ => ⟨hts _ q1024, rfl⟩), List.forall_mem_cons.mpr ⟨(fun _ => ⟨hts _ q1025, rfl⟩), List.forall_mem_cons.mpr ⟨(fun _ => ⟨hts _ q630, rfl⟩), List.forall_mem_cons.mpr ⟨(fun _ => ⟨pb_decl hSF hAl q581, rfl⟩), fun _ h => absurd h List.not_mem_nil⟩⟩⟩⟩⟩, pb_chR hSF hAl hts⟩⟩, ?_⟩
  exact List.forall_mem_cons.mpr ⟨(fun _ => ⟨hts _ hl, rfl⟩), List.forall_mem_cons.mpr ⟨(fun _ => ⟨hts _ q1014, rfl⟩), List.forall_mem_cons.mpr ⟨(fun _ => ⟨pb_cstb hSF hAl q1015, rfl⟩), List.forall_mem_cons.mpr ⟨(fun _ => ⟨hts _ q1016, rfl⟩), List.forall_mem_cons.mpr ⟨(fun _ => ⟨hts _ q618, rfl⟩), List.forall_mem_cons.mpr ⟨(fun _ => ⟨hts _ q1017, rfl⟩), List.forall_mem_cons.mpr ⟨(fun _ => ⟨hts _ q1018, rfl⟩), List.forall_mem_cons.mpr ⟨(fun _ => ⟨hts _ q1019, rfl⟩), List.forall_mem_cons.mpr ⟨(fun _ => ⟨hts _ q1020, rfl⟩), List.forall_mem_cons.mpr ⟨(fun h9 => absurd h9 (by simp [vx_no])), List.forall_mem_cons.mpr ⟨(fun h9 => absurd h9 (by simp [vx_no])), List.forall_mem_cons.mpr ⟨(fun _ => ⟨hts _ q599, rfl⟩), List.forall_mem_cons.mpr ⟨(fun _ => ⟨hts _ q598, rfl⟩), List.forall_mem_cons.mpr ⟨(fun _ => ⟨hts _ q1021, rfl⟩), fun _ h => absurd h List.not_mem_nil⟩⟩⟩⟩⟩⟩⟩⟩⟩⟩⟩⟩⟩⟩
theorem pb_xARE : pb_exc "java/lang/ArithmeticException" := by
  refine ⟨by decide +kernel, q111, fun G s args hSF hAl hts own ic hl => pb_filt ?_⟩
  refine List.forall_mem_append.mpr ⟨List.forall_mem_append.mpr ⟨pb_thA hSF hAl hts, List.forall_mem_append.mpr ⟨List.forall_mem_cons.mpr ⟨(fun _ => ⟨hts _ q1397, rfl⟩), List.forall_mem_cons.mpr ⟨(fun _ => ⟨hts _ q1398, rfl⟩), List.forall_mem_cons.mpr ⟨(fun _ => ⟨hts _ q1399, rfl⟩), List.forall_mem_cons.mpr ⟨(fun _ => ⟨hts _ q630, rfl⟩), List.forall_mem_cons.mpr ⟨(fun _ => ⟨pb_decl hSF hAl q581, rfl⟩), fun _ h => absurd h List.not_mem_nil⟩⟩⟩⟩⟩, pb_chR hSF hAl hts⟩⟩, ?_⟩
  exact List.forall_mem_cons.mpr ⟨(fun _ => ⟨hts _ hl, rfl⟩), List.forall_mem_cons.mpr ⟨(fun _ => ⟨hts _ q1374, rfl⟩), List.forall_mem_cons.mpr ⟨(fun _ => ⟨pb_cstb hSF hAl q1385, rfl⟩), List.forall_mem_cons.mpr ⟨(fun _ => ⟨hts _ q1386, rfl⟩), List.forall_mem_cons.mpr ⟨(fun _ => ⟨hts _ q613, rfl⟩), List.forall_mem_cons.mpr ⟨(fun _ => ⟨hts _ q1380, rfl⟩), List.forall_mem_cons.mpr ⟨(fun _ => ⟨hts _ q1381, rfl⟩), List.forall_mem_cons.mpr ⟨(fun _ => ⟨hts _ q1383, rfl⟩), List.forall_mem_cons.mpr ⟨(fun _ => ⟨hts _ q1379, rfl⟩), List.forall_mem_cons.mpr ⟨(fun h9 => absurd h9 (by simp [vx_no])), List.forall_mem_cons.mpr ⟨(fun h9 => absurd h9 (by simp [vx_no])), List.forall_mem_cons.mpr ⟨(fun _ => ⟨hts _ q599, rfl⟩), List.forall_mem_cons.mpr ⟨(fun _ => ⟨hts _ q598, rfl⟩), List.forall_mem_cons.mpr ⟨(fun _ => ⟨hts _ q1378, rfl⟩), fun _ h => absurd h List.not_mem_nil⟩⟩⟩⟩⟩⟩⟩⟩⟩⟩⟩⟩⟩⟩
theorem pb_xNSE : pb_exc "java/util/NoSuchElementException" := by
  refine ⟨by decide +kernel, q106, fun G s args hSF hAl hts own ic hl => pb_filt ?_⟩
  refine List.forall_mem_append.mpr ⟨List.forall_mem_append.mpr ⟨pb_thA hSF hAl hts, List.forall_mem_append.mpr ⟨List.forall_mem_cons.mpr ⟨(fun _ => ⟨hts _ q892, rfl⟩), List.forall_mem_cons.mpr ⟨(fun _ => ⟨hts _ q893, rfl⟩), List.forall_mem_cons.mpr ⟨(fun _ => ⟨hts _ q894, rfl⟩), List.forall_mem_cons.mpr ⟨(fun _ => ⟨hts _ q630, rfl⟩), List.forall_mem_cons.mpr ⟨(fun _ => ⟨pb_decl hSF hAl q581, rfl⟩), fun _ h => absurd h List.not_mem_nil⟩⟩⟩⟩⟩, pb_chR hSF hAl hts⟩⟩, ?_⟩
  exact List.forall_mem_cons.mpr ⟨(fun _ => ⟨hts _ hl, rfl⟩), List.forall_mem_cons.mpr ⟨(fun _ => ⟨hts _ q883, rfl⟩), List.forall_mem_cons.mpr ⟨(fun _ => ⟨pb_cstb hSF hAl q884, rfl⟩), List.forall_mem_cons.mpr ⟨(fun _ => ⟨hts _ q885, rfl⟩), List.forall_mem_cons.mpr ⟨(fun _ => ⟨hts _ q619, rfl⟩), List.forall_mem_cons.mpr ⟨(fun _ => ⟨hts _ q886, rfl⟩), List.forall_mem_cons.mpr ⟨(fun _ => ⟨hts _ q887, rfl⟩), List.forall_mem_cons.mpr ⟨(fun _ => ⟨hts _ q888, rfl⟩), List.forall_mem_cons.mpr ⟨(fun _ => ⟨hts _ q889, rfl⟩), List.forall_mem_cons.mpr ⟨(fun h9 => absurd h9 (by simp [vx_no])), List.forall_mem_cons.mpr ⟨(fun h9 => absurd h9 (by simp [vx_no])), List.forall_mem_cons.mpr ⟨(fun _ => ⟨hts _ q599, rfl⟩), List.forall_mem_cons.mpr ⟨(fun _ => ⟨hts _ q598, rfl⟩), List.forall_mem_cons.mpr ⟨(fun _ => ⟨hts _ q890, rfl⟩), fun _ h => absurd h List.not_mem_nil⟩⟩⟩⟩⟩⟩⟩⟩⟩⟩⟩⟩⟩⟩
end TH
section THR
variable {p : Program} {l : Launch} {e : Env} {R : Room} {s : State} {m : MethodId} {args : Array Value} {below : List Frame} {meth : Method} {c : Code} {H : Heap} {locs : List Loc} {cells slots : Nat} {Q : State → Prop}
variable {ls : Array Slot} {rest : List Value} {D : va_G} {cl : List vw_C} {tys : List (ClassId × FieldType)} {ws : va_W}
theorem vx_make1 {cc : ByteArray} {pc : Nat} (hexec : p.tables.exec = Jvm.exec) (hb : c.code = cc) (hl : l.stackTraces = false) {own cls : String} {names : List String} {ik ic : Nat} {A : Nat → Prop}
    (hown : s.vm.findClass own = some m.cls) (hcls : Bundle.fit cls = true) (hnames : ∀ n ∈ names, Bundle.fit n = true)
    (hk : (Cond.classLink own ik cls).before args s = true) (hini : (Cond.initialized cls).before args s = true) (hat : ∀ w ∈ vx_at0 own ic cls names, w.before args s = true)
    (hgood : ∀ w ∈ Cond.classLink own ik cls :: Cond.initialized cls :: vx_at0 own ic cls names, vx_ot w = true)
    (hU : vx_Zq Bundle.tN "UNASSIGNED_STACK" Bundle.steD A s H) (hN : vx_Zq Bundle.tN "SUPPRESSED_SENTINEL" Bundle.listD A s H) (hsize : ls.size = c.maxLocals)
    (d0 : decode cc pc = .ok (.new ik, 3)) (d3 : decode cc (pc + 3) = .ok (.dup, 1)) (d4 : decode cc (pc + 4) = .ok (.invokespecial ic, 3))
    (hRframes : names.length + 3 < R.frames) (hRlocals : (rest.map fun v => v.category).sum + (13 * (names.length + 1) + 42) ≤ R.locals) (hRcells : cells + 1 ≤ R.cells) (hRslots : slots + 6 ≤ R.slots)
    (kk : ∀ (H1 : Heap) (ce : Cell), H1[H.size]? = some ce → ce.vm = .none → s.vm.findClass cls = some ce.cls → H.size < H1.size → (∀ q, q < H.size → H1[q]? = H[q]?) → W p l e R s m args below meth c H1 locs (cells + 1) (slots + 6) Q (F0 m (pc + 7) ls (.ref H.size :: rest))) :
    W p l e R s m args below meth c H locs cells slots Q (F0 m pc ls rest) := by
  intro T hT X
  subst hT
  have htr : e.platform.stackTraces = false := (show e.platform.stackTraces = l.stackTraces by rw [X.admits.platform]).trans hl
  have Y := vx_rebase X (R' := { frames := R.frames, locals := R.locals, cells := 1, slots := 6 }) (Nat.le_refl _) (Nat.le_refl _) hRcells hRslots
  obtain ⟨s', hA'⟩ : ∃ z, z = (T.setVm s.vm).setFrames (.invoking m args :: below) := ⟨_, rfl⟩
  rw [← hA'] at Y
  have hvm : s'.vm = s.vm := by rw [hA']; rfl
  have hhp : s'.heap = T.heap := by rw [hA']; rfl
  have hW0 : s.WarmedH s'.vm := by rw [hvm]; exact State.WarmedH.refl s
  have hat' : ∀ w ∈ vx_at0 own ic cls names, w.before args s' = true := fun w hw => vx_ot_at hW0 hvm.symm (hgood w (List.mem_cons_of_mem _ (List.mem_cons_of_mem _ hw))) (hat w hw)
  have hk' : (Cond.classLink own ik cls).before args s' = true := vx_ot_at hW0 hvm.symm (hgood _ List.mem_cons_self) hk
  have hini' : (Cond.initialized cls).before args s' = true := vx_ot_at hW0 hvm.symm (hgood _ (List.mem_cons_of_mem _ List.mem_cons_self)) hini
  have hU' : vx_Zq Bundle.tN "UNASSIGNED_STACK" Bundle.steD A s' s'.heap := by rw [hhp]; exact vx_Zq.moved hW0.alike hU
  have hN' : vx_Zq Bundle.tN "SUPPRESSED_SENTINEL" Bundle.listD A s' s'.heap := by rw [hhp]; exact vx_Zq.moved hW0.alike hN
  have h : ∀ w ∈ Bundle.ownAtoms0 own ic cls names, w.before args s' = true := vx_own hat' (vx_isRefq hU'.1) (vx_isRefq hN'.1) hU'.2.word hN'.2.word
  have hown' : s'.vm.findClass own = some m.cls := by rw [hvm]; exact hown
  have hins : (Cond.instantiable cls 6).before args s' = true := h _ (by simp [Bundle.ownAtoms0])
  obtain ⟨vm₁, cX, kX, hfX, hkX, -, -, X₁, st1⟩ := Y.newCold hexec (own := own) (C := cls) (index := ik) (n := 6) hown' hk' hins hini'
    (g := F0 m pc ls rest) rfl (by rw [hb]; exact d0) (Nat.le_refl _) (Nat.le_refl _)
  generalize hT1 : (T.setVm vm₁).pushCell { cls := cX, slots := kX.instanceTypes.map defaultValue, vm := .none } = T1 at X₁ st1
  have hcat : (Value.ref T.heap.size).category = 1 := rfl
  have hcellA : T1.heap[T.heap.size]? = some (freshCell cX kX) := by rw [← hT1]; exact State.heap_pushCell_size _ _
  have d3' : decode c.code (pc + 3) = .ok (.dup, 1) := by rw [hb]; exact d3
  obtain ⟨V, ce, L, Z, hL, hlt, hcl9, hvm9, st⟩ := vx_ctorMade0 X₁ hexec htr (own := own) (cls := cls) (names := names) (ic := ic) hown' hcls hnames h (fun x hx => nomatch hx) hfX hkX hcellA (by rw [hhp]; exact Nat.le_refl _)
    (g := { method := m, pc := pc + 4, locals := ls, stack := .ref T.heap.size :: .ref T.heap.size :: rest, locked := none }) rfl hsize (rest := rest) rfl
    (by rw [hb]; exact d4) hRframes (by simp only [List.map_cons, List.sum_cons, hcat]; omega)
  have Z0 := Stand.forget (locs := []) Z (fun y hy => by rw [hL y hy, hhp]; exact Nat.le_refl _)
  obtain ⟨f1, f2⟩ := vx_frame Z0.same
  rw [hhp] at f1 f2
  have hcid : s.vm.findClass cls = some ce.cls := by
    rw [hcl9, ← hvm]
    exact hfX
  have hh : (V.setCell T.heap.size ce).heap[T.heap.size]? = some ce := heapAt_setCell_self (s := V) ce hlt
  subst hA'
  have X5 := vx_back9 X Y Z0
  have X6 : Stand p l e R s m args below meth c (V.setCell T.heap.size ce) locs (cells + 1) (slots + 6) := { X5 with same := X5.same.mono (by omega) (by omega) }
  obtain ⟨t, a1, b1⟩ := kk (V.setCell T.heap.size ce).heap ce hh hvm9 hcid (Array.getElem?_eq_some_iff.mp hh).1 (fun q h1 => f2 q h1 (fun z hz => nomatch hz)) _ rfl X6
  refine ⟨t, st1 _ ?_, b1⟩
  show Steps p.tables e below (T1.setTop { method := m, pc := pc + 3, locals := ls, stack := .ref T.heap.size :: rest, locked := none }) _
  jvm_step X₁.here [X₁.here.top, hexec, d3', Value.category]
  exact st _ a1
end THR
def pb_el : List (Nat × Nat × String) := [(1, 44, "java/lang/UnsupportedOperationException"), (1, 169, "java/util/NoSuchElementException"), (1, 263, "java/lang/ArithmeticException"), (1, 292, "java/lang/IllegalStateException"), (1, 316, "java/lang/IllegalArgumentException"), (2, 93, "java/util/NoSuchElementException"), (24, 99, "java/util/NoSuchElementException"), (7, 12, "java/lang/IllegalStateException"), (7, 3, "java/lang/IndexOutOfBoundsException"), (7, 9, "java/lang/IllegalArgumentException"), (7, 15, "java/util/NoSuchElementException")]
theorem pb_el_ok : ∀ x ∈ pb_el, Cond.methodLink (pb_cn x.1) x.2.1 (Bundle.init0 x.2.2) ∈ lw_all := List.forall_mem_cons.mpr ⟨q1022, List.forall_mem_cons.mpr ⟨q1207, List.forall_mem_cons.mpr ⟨q1396, List.forall_mem_cons.mpr ⟨q1826, List.forall_mem_cons.mpr ⟨q1827, List.forall_mem_cons.mpr ⟨q891, List.forall_mem_cons.mpr ⟨q977, List.forall_mem_cons.mpr ⟨q626, List.forall_mem_cons.mpr ⟨q673, List.forall_mem_cons.mpr ⟨q691, List.forall_mem_cons.mpr ⟨q1171, fun _ h => absurd h List.not_mem_nil⟩⟩⟩⟩⟩⟩⟩⟩⟩⟩⟩
def pb_lke : List (Nat × Nat × String) → Nat → Nat → Option String
  | [], _, _ => none
  | x :: r, o, i => bif Nat.beq x.1 o && Nat.beq x.2.1 i then some x.2.2 else pb_lke r o i
theorem pb_lke_ok : ∀ {l : List (Nat × Nat × String)} {o i : Nat} {X : String}, pb_lke l o i = some X → (o, i, X) ∈ l
  | [], _, _, _, h => by cases h
  | x :: r, o, i, X, h => by
    unfold pb_lke at h
    cases hb : Nat.beq x.1 o && Nat.beq x.2.1 i with
    | true =>
      rw [hb] at h
      cases h
      rw [Bool.and_eq_true] at hb
      rw [← Nat.eq_of_beq_eq_true hb.1, ← Nat.eq_of_beq_eq_true hb.2]
      exact List.mem_cons_self
    | false =>
      rw [hb] at h
      exact List.mem_cons_of_mem _ (pb_lke_ok h)
/-- the statics that Throwable's constructor reads -/
def pb_thS (G : pb_G) : Prop := vx_Zq Bundle.tN "UNASSIGNED_STACK" Bundle.steD (fun _ => False) G.2.1 G.2.1.heap ∧ vx_Zq Bundle.tN "SUPPRESSED_SENTINEL" Bundle.listD (fun _ => False) G.2.1 G.2.1.heap
section ROWS51
variable {G : pb_G} {M M2 : pb_M} {n C S n2 C2 S2 : Nat} {Q Q2 : pb_O → pb_H → Prop} {k u pc : Nat} {L : List (Option pb_V)} {st a rest : List pb_V} {h : pb_H}
theorem pb_Rep.hole {H H1 : Heap} (hR : pb_Rep G h H) (hz : h.1 < H1.size) (oq : ∀ q : Nat, q < H.size → H1[q]? = H[q]?) : pb_Rep G (H1.size, h.2) H1 := ⟨rfl, Nat.le_trans hR.2.1 (Nat.le_of_lt hz), fun b x hx => by
  obtain ⟨h1, h2⟩ := hR.2.2 b x hx
  exact ⟨h1.kept (oq b h1.lt), h2⟩⟩
/-- 'new X(); athrow' up to the throw itself -/
theorem pb_Ex.thr {nx0 tg0 nx3 tg3 nx4 tg4 nx7 tg7 ik ic : Nat} {X : String} (hX : pb_exc X) (hK : pb_thS G) (hi : pb_ig (pb_tb M) pc = some (.new ik, nx0, tg0)) (hi3 : pb_ig (pb_tb M) (pc + 3) = some (.dup, nx3, tg3)) (hi4 : pb_ig (pb_tb M) (pc + 4) = some (.invokespecial ic, nx4, tg4)) (hi7 : pb_ig (pb_tb M) (pc + 7) = some (.athrow, nx7, tg7)) (hl : pb_lkS (pb_ct M.1) ik = some X) (he : pb_lke pb_el M.1 ic = some X) (hsm : pb_sm st = true) (hn6 : 6 ≤ n) (hC : k + 1 ≤ C) (hS9 : u + 6 ≤ S)
    (kk : ∀ sz : Nat, h.1 < sz → pb_Xx G M n C S Q (k + 1) (u + 6) (pc + 7) L X h.1 (sz, h.2)) : pb_Ex G M n C S Q k u pc L st h := by
  intro p e R s m args below meth c X9 H locs ls hR hO hL hl9 hn
  have X' := X9
  obtain ⟨hx, hb, hml, hrt, hlk, hnm, hown, hts, hHT, hSF, hAl, hRm, hT, hsz⟩ := X9
  obtain ⟨hd, -, -⟩ := pb_ig_ok hT hi rfl
  obtain ⟨hd3, -, -⟩ := pb_ig_ok hT hi3 rfl
  obtain ⟨hd4, -, -⟩ := pb_ig_ok hT hi4 rfl
  obtain ⟨hd7, -, -⟩ := pb_ig_ok hT hi7 rfl
  obtain ⟨x1, x2, x3⟩ := hX
  have hml9 := pb_el_ok _ (pb_lke_ok he)
  have hat := x3 G s args hSF hAl hts (pb_cn M.1) ic hml9
  have hs9 := pb_sm_ok hsm
  have kept : ∀ a : Nat, a < G.2.1.heap.size → ¬ False → H[a]? = G.2.1.heap[a]? := fun a ha _ => hO a ha
  refine vx_make1 (A := fun _ => False) (names := ["java/lang/RuntimeException", "java/lang/Exception"]) hx hb (by unfold Launch.stackTraces; rw [hSF.2.2.1]; decide +kernel) hown x1 (by decide +kernel) (hts _ (pb_lkc hl)) (hts _ x2) (fun w hw => (hat w hw).1)
    (fun w hw => ?_) (vx_Zq.moved hAl (vx_Zq.kept hK.1 kept)) (vx_Zq.moved hAl (vx_Zq.kept hK.2 kept)) (hl9.1.trans hml.symm) hd hd3 hd4 (by show 2 + 3 < _; omega) (by show _ + (13 * (2 + 1) + 42) ≤ _; omega) (Nat.le_trans hC hRm.2.2.1) (Nat.le_trans hS9 hRm.2.2.2) (fun H1 ce c1 c2 c3 c4 c5 => ?_)
  · rcases List.mem_cons.mp hw with e9 | hw
    · rw [e9]; rfl
    · rcases List.mem_cons.mp hw with e9 | hw
      · rw [e9]; rfl
      · exact (hat w hw).2
  · rw [hR.1] at c1 c4 c5
    refine vx_athrow hx hb hd7 ?_
    rw [hR.1]
    exact kk H1.size c4 p e R s m args below meth c X' H1 locs ls ce _ (hR.hole c4 (by rw [hR.1]; exact c5)) (fun q hq => (c5 q (Nat.lt_of_lt_of_le hq hR.2.1)).trans (hO q hq)) hL hl9 hn c1 c2 c3
/-- not caught: a method without handlers -/
theorem pb_Xx.out {E : String} {q : Nat} (hM : M.2.2.2.2.2.1 = none) (hk : k ≤ C) (hu : u ≤ S) (hq : Q (.inr (E, q)) h) : pb_Xx G M n C S Q k u pc L E q h := by
  intro p e R s m args below meth c X H locs ls ce rest hR hO hL hl hn h1 h2 h3
  obtain ⟨hx, hb, hml, hrt, hlk, hnm, hown, hts, hHT, hSF, hAl, hRm, hT, hsz⟩ := X
  have hHT : ∀ x ∈ c.exceptionTable.toList, False := by
    unfold pb_HT at hHT
    rw [hM] at hHT
    exact hHT
  refine vx_out (fun x hx9 => (hHT x hx9).elim) hlk h1 h2 h3 (fun t ht hal => ?_) hL hk hu
  exact ⟨h, hq, by rw [ht]; exact hR, by rw [ht]; exact hO⟩
end ROWS51
