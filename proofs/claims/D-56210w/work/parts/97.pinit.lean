set_option maxRecDepth 100000
section PINIT
variable {G : pb_G} {K : co_K} {h : pb_H} {o a : Nat}
theorem ps_init (hb : h.2 o = some (pb_ob 10 [pb_0, pb_i 0])) : pb_Ctr G mX12_init 1 0 0 [pb_r o, pb_r a] h (fun oc h' => oc = .inl none ∧ h'.1 = h.1 ∧ h'.2 o = some (pb_ob 10 [pb_r a, pb_i 0]) ∧ ∀ x, x ≠ o → h'.2 x = h.2 x) := by
  refine pb_Ctr.of rfl rfl rfl tX12_init_ok rfl ?_
  (try refine pb_Ex.run rfl ?_)
  refine pb_Ex.objI rfl rfl rfl (by omega) ?_
  refine pb_Ex.run rfl ?_
  refine pb_Ex.putfF rfl rfl (hb) (Or.inl rfl) (fun r hr => by cases hr; rfl) rfl (by first | trivial | exact Or.inl rfl | exact Or.inr rfl | (show _ ∨ _; omega) | (show _ ∧ _; omega)) ?_
  (try refine pb_Ex.run rfl ?_)
  refine pb_Ex.vret rfl rfl (by omega) (by omega) (⟨rfl, rfl, pb_set_same, fun x hx => pb_set_ne hx⟩)
end PINIT
