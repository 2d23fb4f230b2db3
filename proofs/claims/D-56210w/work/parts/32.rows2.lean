set_option maxRecDepth 100000
/-! MORE ROWS: shifts, or, doubles -/
theorem pb_sh31 : ∀ s : Fin 32, ((nI s.val &&& 31).toBitVec.smod 32).toNat = s.val := by decide
theorem pb_nI_or {a b : Nat} (ha : a < 2147483648) (hb : b < 2147483648) : nI a ||| nI b = nI (a ||| b) := by
  rw [← Int32.toBitVec_inj]
  apply BitVec.eq_of_toNat_eq
  have hor : a ||| b < 2 ^ 31 := Nat.or_lt_two_pow (n := 31) ha hb
  have e1 : (nI a ||| nI b).toBitVec.toNat = (nI a).toBitVec.toNat ||| (nI b).toBitVec.toNat := BitVec.toNat_or _ _
  rw [e1, pk_tn (n := a) (by omega), pk_tn (n := b) (by omega), pk_tn (n := a ||| b) (by omega)]
section ROWS
variable {G : pb_G} {M M2 : pb_M} {n C S n2 C2 S2 : Nat} {Q Q2 : pb_O → pb_H → Prop} {k u pc : Nat} {L : List (Option pb_V)} {st a rest : List pb_V} {h : pb_H}
theorem pb_Ex.ishl {nx tg a s : Nat} (hi : pb_ig (pb_tb M) pc = some (.ishl, nx, tg)) (hs : s < 32) (ha : a * 2 ^ s < 2147483648) (kk : pb_Ex G M n C S Q k u nx L (pb_i ((a * 2 ^ s : Nat) : Int) :: st) h) : pb_Ex G M n C S Q k u pc L (pb_i (s : Nat) :: pb_i (a : Nat) :: st) h := by
  intro p e R s0 m args below meth c X H locs ls hR hO hL hl hn
  have X' := X
  obtain ⟨hx, hb, -, -, -, -, -, -, -, -, -, -, hT, -⟩ := X
  obtain ⟨hd, rfl, hj⟩ := pb_ig_ok hT hi rfl
  have e1 : pb_I (a : Int) <<< (pb_I (s : Int) &&& 31) = pb_I ((a * 2 ^ s : Nat) : Int) := by
    rw [← pb_nI_I, ← pb_nI_I, ← pb_nI_I]
    exact pk_shlN _ s (pb_sh31 ⟨s, hs⟩) (by omega)
  refine lv_ishl hx hb hd ?_
  rw [e1]
  exact kk p e R s0 m args below meth c X' H locs ls hR hO hL hl hn
theorem pb_Ex.ishr {nx tg a s : Nat} (hi : pb_ig (pb_tb M) pc = some (.ishr, nx, tg)) (hs : s < 32) (ha : a < 2147483648) (kk : pb_Ex G M n C S Q k u nx L (pb_i ((a / 2 ^ s : Nat) : Int) :: st) h) : pb_Ex G M n C S Q k u pc L (pb_i (s : Nat) :: pb_i (a : Nat) :: st) h := by
  intro p e R s0 m args below meth c X H locs ls hR hO hL hl hn
  have X' := X
  obtain ⟨hx, hb, -, -, -, -, -, -, -, -, -, -, hT, -⟩ := X
  obtain ⟨hd, rfl, hj⟩ := pb_ig_ok hT hi rfl
  have e1 : pb_I (a : Int) >>> (pb_I (s : Int) &&& 31) = pb_I ((a / 2 ^ s : Nat) : Int) := by
    rw [← pb_nI_I, ← pb_nI_I, ← pb_nI_I]
    exact pk_shrN (by omega) _ s (pb_sh31 ⟨s, hs⟩)
  refine lv_ishr hx hb hd ?_
  rw [e1]
  exact kk p e R s0 m args below meth c X' H locs ls hR hO hL hl hn
theorem pb_Ex.ior {nx tg a b : Nat} (hi : pb_ig (pb_tb M) pc = some (.ior, nx, tg)) (ha : a < 2147483648) (hb9 : b < 2147483648) (kk : pb_Ex G M n C S Q k u nx L (pb_i ((a ||| b : Nat) : Int) :: st) h) : pb_Ex G M n C S Q k u pc L (pb_i (b : Nat) :: pb_i (a : Nat) :: st) h := by
  intro p e R s0 m args below meth c X H locs ls hR hO hL hl hn
  have X' := X
  obtain ⟨hx, hb, -, -, -, -, -, -, -, -, -, -, hT, -⟩ := X
  obtain ⟨hd, rfl, hj⟩ := pb_ig_ok hT hi rfl
  have e1 : pb_I (a : Int) ||| pb_I (b : Int) = pb_I ((a ||| b : Nat) : Int) := by
    rw [← pb_nI_I, ← pb_nI_I, ← pb_nI_I]
    exact pb_nI_or ha hb9
  refine lv_ior hx hb hd ?_
  rw [e1]
  exact kk p e R s0 m args below meth c X' H locs ls hR hO hL hl hn
theorem pb_Ex.i2d {nx tg : Nat} {z : Int} (hi : pb_ig (pb_tb M) pc = some (.i2d, nx, tg)) (kk : pb_Ex G M n C S Q k u nx L (pb_d (FP.i2d (pb_I z)) :: st) h) : pb_Ex G M n C S Q k u pc L (pb_i z :: st) h := by
  intro p e R s0 m args below meth c X H locs ls hR hO hL hl hn
  have X' := X
  obtain ⟨hx, hb, -, -, -, -, -, -, -, -, -, -, hT, -⟩ := X
  obtain ⟨hd, rfl, hj⟩ := pb_ig_ok hT hi rfl
  exact lv_i2d hx hb hd (kk p e R s0 m args below meth c X' H locs ls hR hO hL hl hn)
theorem pb_Ex.ddiv {nx tg : Nat} {x y : UInt64} (hi : pb_ig (pb_tb M) pc = some (.ddiv, nx, tg)) (hne : vf_n64 (FP.ddiv x y)) (kk : pb_Ex G M n C S Q k u nx L (pb_d (FP.ddiv x y) :: st) h) : pb_Ex G M n C S Q k u pc L (pb_d y :: pb_d x :: st) h := by
  intro p e R s0 m args below meth c X H locs ls hR hO hL hl hn
  have X' := X
  obtain ⟨hx, hb, -, -, -, -, -, -, -, -, -, -, hT, -⟩ := X
  obtain ⟨hd, rfl, hj⟩ := pb_ig_ok hT hi rfl
  exact lv_ddiv hx hb hd hne (kk p e R s0 m args below meth c X' H locs ls hR hO hL hl hn)
theorem pb_Ex.dconst0 {nx tg : Nat} (hi : pb_ig (pb_tb M) pc = some (.dconst 0, nx, tg)) (kk : pb_Ex G M n C S Q k u nx L (pb_d FP.dconst0 :: st) h) : pb_Ex G M n C S Q k u pc L st h := by
  intro p e R s0 m args below meth c X H locs ls hR hO hL hl hn
  have X' := X
  obtain ⟨hx, hb, -, -, -, -, -, -, -, -, -, -, hT, -⟩ := X
  obtain ⟨hd, rfl, hj⟩ := pb_ig_ok hT hi rfl
  exact lv_dconst0 hx hb hd (kk p e R s0 m args below meth c X' H locs ls hR hO hL hl hn)
end ROWS
/-! NO NaN -/
/-- what a rounding may give -/
def pb_dok : FP.Core.Datum → Prop
  | .nan => False
  | .inf _ => True
  | .fin _ c q => c < 2 ^ 53 ∧ q ≤ 971
theorem pb_enc {d : FP.Core.Datum} (h : pb_dok d) : FP.Core.encode FP.Core.b64 d < 2 ^ 64 ∧ FP.Core.encode FP.Core.b64 d % 2 ^ 63 ≤ 0x7ff0000000000000 := by
  have hs : ∀ s : Bool, s.toNat = 0 ∨ s.toNat = 1 := by decide
  match d, h with
  | .inf s, _ =>
    have e0 : FP.Core.encode FP.Core.b64 (.inf s) = (s.toNat * 2048 + 2047) * 4503599627370496 := by cases s <;> decide
    rw [e0]
    rcases hs s with e | e <;> rw [e] <;> omega
  | .fin s c q, ⟨h1, h2⟩ =>
    have e0 : FP.Core.encode FP.Core.b64 (.fin s c q) = if c < 4503599627370496 then (s.toNat * 2048 + 0) * 4503599627370496 + c else (s.toNat * 2048 + ((q - (-1074)).toNat + 1)) * 4503599627370496 + (c - 4503599627370496) := rfl
    rw [e0]
    have h1 : c < 9007199254740992 := h1
    split
    · rcases hs s with e | e <;> rw [e] <;> omega
    · rcases hs s with e | e <;> rw [e] <;> omega
theorem pb_dec {n : Nat} (h : n % 2 ^ 63 ≤ 0x7ff0000000000000) : FP.Core.decode FP.Core.b64 n ≠ .nan := by
  have ht : FP.Core.Fmt.tails FP.Core.b64 = 4503599627370496 := rfl
  have hx : FP.Core.Fmt.exps FP.Core.b64 = 2048 := rfl
  unfold FP.Core.decode FP.Core.fieldE FP.Core.fieldT
  rw [ht, hx]
  split
  · split
    · intro q; cases q
    · omega
  · split <;> (intro q; cases q)
theorem pb_settle (s : Bool) (c : Nat) (q : Int) : pb_dok (FP.Core.settle FP.Core.b64 s c q) := by
  have hm : FP.Core.Fmt.qmax FP.Core.b64 = 971 := rfl
  have ht : FP.Core.Fmt.tails FP.Core.b64 = 4503599627370496 := rfl
  unfold FP.Core.settle FP.Core.bound
  rw [hm, ht]
  split
  · next h1 =>
    split
    · next h2 => exact ⟨h1, h2⟩
    · trivial
  · split
    · next h2 => exact ⟨by omega, h2⟩
    · trivial
theorem pb_rr (s : Bool) (a b : Nat) (e : Int) : pb_dok (FP.Core.roundRatio FP.Core.b64 s a b e) := by
  unfold FP.Core.roundRatio
  split
  · exact ⟨by omega, by show (-1074 : Int) ≤ 971; omega⟩
  · exact pb_settle _ _ _
theorem pb_n64 {n : Nat} (h : n < 2 ^ 64 ∧ n % 2 ^ 63 ≤ 0x7ff0000000000000) : vf_n64 (UInt64.ofNat n) := by
  unfold vf_n64
  rw [UInt64.le_iff_toNat_le, UInt64.toNat_and]
  have e1 : (UInt64.ofNat n).toNat = n := by rw [UInt64.toNat_ofNat']; exact Nat.mod_eq_of_lt h.1
  have e2 : (0x7fffffffffffffff : UInt64).toNat = 2 ^ 63 - 1 := by decide
  rw [e1, e2, Nat.and_two_pow_sub_one_eq_mod]
  exact h.2
theorem pb_i2d_ok (x : Int32) : (FP.i2d x).toNat < 2 ^ 64 ∧ (FP.i2d x).toNat % 2 ^ 63 ≤ 0x7ff0000000000000 := by
  have h1 : pb_dok (FP.Core.round FP.Core.b64 (FP.Core.ofInt x.toInt)) := pb_rr _ _ _ _
  have h2 := pb_enc h1
  have e1 : (FP.i2d x).toNat = FP.Core.encode FP.Core.b64 (FP.Core.round FP.Core.b64 (FP.Core.ofInt x.toInt)) := by
    show (UInt64.ofNat (FP.Core.encode FP.Core.b64 (FP.Core.round FP.Core.b64 (FP.Core.ofInt x.toInt)))).toNat = _
    rw [UInt64.toNat_ofNat']
    exact Nat.mod_eq_of_lt h2.1
  rw [e1]
  exact h2
theorem pb_div_ok {x y : UInt64} (hx : x.toNat % 2 ^ 63 ≤ 0x7ff0000000000000) {t : Bool} {d : Nat} {r : Int} (hy : FP.Core.decode FP.Core.b64 y.toNat = .fin t d r) (hd : d ≠ 0) : vf_n64 (FP.ddiv x y) := by
  refine pb_n64 (pb_enc ?_)
  rw [hy]
  have h1 := pb_dec hx
  cases hq : FP.Core.decode FP.Core.b64 x.toNat with
  | nan => exact absurd hq h1
  | inf s => trivial
  | fin s c q =>
    show pb_dok (if d = 0 then _ else FP.Core.roundRatio FP.Core.b64 _ c d (q - r))
    rw [if_neg hd]
    exact pb_rr _ _ _ _
theorem pb_mean {s n : Int} (hn : 1 ≤ n ∧ n ≤ 6) : vf_n64 (FP.ddiv (FP.i2d (pb_I s)) (FP.i2d (pb_I n))) := by
  have hc : n = 1 ∨ n = 2 ∨ n = 3 ∨ n = 4 ∨ n = 5 ∨ n = 6 := by omega
  have key : ∀ m : Int, m = n → (∃ t d r, FP.Core.decode FP.Core.b64 (FP.i2d (pb_I m)).toNat = .fin t d r ∧ d ≠ 0) → vf_n64 (FP.ddiv (FP.i2d (pb_I s)) (FP.i2d (pb_I n))) := by
    intro m hm ⟨t, d, r, h1, h2⟩
    subst hm
    exact pb_div_ok (pb_i2d_ok _).2 h1 h2
  rcases hc with e | e | e | e | e | e
  · exact key 1 e.symm ⟨false, 4503599627370496, -52, by decide, by decide⟩
  · exact key 2 e.symm ⟨false, 4503599627370496, -51, by decide, by decide⟩
  · exact key 3 e.symm ⟨false, 6755399441055744, -51, by decide, by decide⟩
  · exact key 4 e.symm ⟨false, 4503599627370496, -50, by decide, by decide⟩
  · exact key 5 e.symm ⟨false, 5629499534213120, -50, by decide, by decide⟩
  · exact key 6 e.symm ⟨false, 6755399441055744, -50, by decide, by decide⟩
