set_option maxRecDepth 100000
/-! MORE ROOM; a question's end -/
theorem pb_room_le {s : State} {pl : Platform} {n n' C C' S S' : Nat} (h : s.hasRoom pl (pb_room n' C' S') = true) (h1 : n ≤ n') (h2 : C ≤ C') (h3 : S ≤ S') : s.hasRoom pl (pb_room n C S) = true := by
  simp only [State.hasRoom, Bool.and_eq_true, decide_eq_true_eq] at h ⊢
  obtain ⟨⟨⟨⟨a1, a2, a3, a4, a5, a6⟩, a7⟩, a8⟩, a9⟩ := h
  unfold pb_room at *
  dsimp only at *
  exact ⟨⟨⟨⟨by omega, by omega, by omega, by omega, by omega, a6⟩, by omega⟩, by omega⟩, a9⟩
section WIDE
variable {G : pb_G} {M : pb_M} {n C S : Nat} {Q : pb_O → pb_H → Prop} {a : List pb_V} {h : pb_H}
theorem pb_Ctr.wide {n' C' S' : Nat} (hc : pb_Ctr G M n C S a h Q) (h1 : n ≤ n') (h2 : C ≤ C') (h3 : S ≤ S') : pb_Ctr G M n' C' S' a h Q := by
  intro p e ha hc9 hk s m args below hf happ hP hK
  have happ' : (headSpec (pb_ws M) (pb_room n C S)).appliesLoose M.2.1 e.platform s = true := by
    obtain ⟨b1, b2, b3, b4, b5, b6, b7, b8⟩ := (Spec.appliesLoose_iff hf).mp happ
    exact (Spec.appliesLoose_iff hf).mpr ⟨b1, b2, b3, b4, b5, b6, pb_room_le b7 h1 h2 h3, b8⟩
  obtain ⟨t, o, c1, c2, c3, c4⟩ := hc p e ha hc9 hk s m args below hf happ' hP hK
  refine ⟨t, o, c1, c2, c3, ?_⟩
  rcases c4 with ⟨d1, L, d2, d3⟩ | ⟨q, e1, E, ce, L9, f1, f2, f3, f4, f5, f6, f7⟩
  · exact Or.inl ⟨d1, L, ⟨d2.1, d2.2.1, d2.2.2.mono h2 h3⟩, d3⟩
  · exact Or.inr ⟨q, e1, E, ce, L9, f1, f2, f3, f4, f5, f6.mono h2 h3, f7⟩
/-- the use's questions: (which refusal, 0 none; the answer); no old cell changes -/
def qu_Q (h : pb_H) (ex : Int → String) (r : Int × Int) : pb_O → pb_H → Prop := fun oc h' => fr_x h h' ∧ ((r.1 = 0 ∧ oc = .inl (some (pb_i r.2))) ∨ (r.1 ≠ 0 ∧ ∃ q, oc = .inr (ex r.1, q)))
theorem pb_Ctr.qF {ex : Int → String} {v : Int} (hc : pb_Ctr G M n C S a h (fr_Q (some (pb_i v)) h)) (h1 : n ≤ 20) (h2 : C ≤ 20000) (h3 : S ≤ 40000) : pb_Ctr G M 20 20000 40000 a h (qu_Q h ex (0, v)) :=
  (hc.mono (fun o h' q => ⟨q.2, Or.inl ⟨rfl, q.1⟩⟩)).wide h1 h2 h3
theorem pb_Ctr.qP {ex : Int → String} {v : Int} (hc : pb_Ctr G M n C S a h (pb_P (some (pb_i v)) h)) (h1 : n ≤ 20) (h2 : C ≤ 20000) (h3 : S ≤ 40000) : pb_Ctr G M 20 20000 40000 a h (qu_Q h ex (0, v)) :=
  (hc.mono (fun _ _ q => pb_P_fr q)).qF h1 h2 h3
theorem pb_Ctr.qT {ex : Int → String} {E : String} {c v : Int} (hc : pb_Ctr G M n C S a h (th_Q E h)) (hE : ex c = E) (h0 : c ≠ 0) (h1 : n ≤ 20) (h2 : C ≤ 20000) (h3 : S ≤ 40000) : pb_Ctr G M 20 20000 40000 a h (qu_Q h ex (c, v)) :=
  (hc.mono (fun o h' q => by
    obtain ⟨q9, e1, e2⟩ := q
    exact ⟨e2, Or.inr ⟨h0, q9, by rw [e1, hE]⟩⟩)).wide h1 h2 h3
end WIDE
/-- the exceptions by the law's places -/
def exl (l : List String) (c : Int) : String := l.getD (c - 1).toNat ""
