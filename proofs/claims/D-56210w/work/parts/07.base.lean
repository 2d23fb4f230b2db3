set_option maxRecDepth 100000
/-! VALUES: whole numbers stand for machine numbers (an int z is Int32.ofInt z) -/
abbrev pb_V : Type := Int ⊕ Int ⊕ UInt64 ⊕ Option Nat
abbrev pb_i (z : Int) : pb_V := .inl z
abbrev pb_j (z : Int) : pb_V := .inr (.inl z)
abbrev pb_d (x : UInt64) : pb_V := .inr (.inr (.inl x))
abbrev pb_q (r : Option Nat) : pb_V := .inr (.inr (.inr r))
abbrev pb_r (a : Nat) : pb_V := .inr (.inr (.inr (some a)))
abbrev pb_0 : pb_V := .inr (.inr (.inr none))
def pb_I (z : Int) : Int32 := Int32.ofInt z
def pb_J (z : Int) : Int64 := Int64.ofInt z
def pb_cv (v : pb_V) : Value := match v with
  | .inl z => .int (pb_I z)
  | .inr (.inl z) => .long (pb_J z)
  | .inr (.inr (.inl x)) => .double x
  | .inr (.inr (.inr r)) => va_rf r
def pb_c1 (v : pb_V) : Bool := match v with
  | .inl _ => true
  | .inr (.inr (.inr _)) => true
  | _ => false
theorem pb_c1_cat {v : pb_V} (h : pb_c1 v = true) : (pb_cv v).category = 1 := by
  rcases v with z | z | x | r
  · rfl
  · cases h
  · cases h
  · cases r <;> rfl
theorem pb_c2_cat {v : pb_V} (h : pb_c1 v = false) : (pb_cv v).category = 2 := by
  rcases v with z | z | x | r
  · cases h
  · rfl
  · rfl
  · cases h
abbrev pb_rg (z : Int) : Prop := -2147483648 ≤ z ∧ z < 2147483648
theorem pb_I_toInt {z : Int} (h : pb_rg z) : (pb_I z).toInt = z := Int32.toInt_ofInt_of_le h.1 h.2
theorem pb_I_add (a b : Int) : pb_I a + pb_I b = pb_I (a + b) := (Int32.ofInt_add _ _).symm
theorem pb_I_sub (a b : Int) : pb_I a - pb_I b = pb_I (a - b) := (Int32.ofInt_sub _ _).symm
theorem pb_I_mul (a b : Int) : pb_I a * pb_I b = pb_I (a * b) := (Int32.ofInt_mul _ _).symm
theorem pb_I_neg (a : Int) : -pb_I a = pb_I (-a) := (Int32.ofInt_neg _).symm
theorem pb_J_add (a b : Int) : pb_J a + pb_J b = pb_J (a + b) := (Int64.ofInt_add _ _).symm
theorem pb_J_sub (a b : Int) : pb_J a - pb_J b = pb_J (a - b) := (Int64.ofInt_sub _ _).symm
theorem pb_I_lt {a b : Int} (ha : pb_rg a) (hb : pb_rg b) : pb_I a < pb_I b ↔ a < b := by
  rw [Int32.lt_iff_toInt_lt, pb_I_toInt ha, pb_I_toInt hb]
theorem pb_I_le {a b : Int} (ha : pb_rg a) (hb : pb_rg b) : pb_I a ≤ pb_I b ↔ a ≤ b := by
  rw [Int32.le_iff_toInt_le, pb_I_toInt ha, pb_I_toInt hb]
theorem pb_I_eq {a b : Int} (ha : pb_rg a) (hb : pb_rg b) : pb_I a = pb_I b ↔ a = b := by
  rw [← Int32.toInt_inj, pb_I_toInt ha, pb_I_toInt hb]
theorem pb_I_0 : pb_I 0 = 0 := rfl
theorem pb_I_nat {k : Nat} : pb_I (k : Int) = Int32.ofNat k := by
  unfold pb_I
  exact Int32.ofInt_eq_ofNat
theorem pb_I_clamp {z : Int} {n : Nat} (h0 : 0 ≤ z) (h : z < n) (hn : n ≤ 2147483648) : (pb_I z).toNatClampNeg = z.toNat := by
  show (pb_I z).toInt.toNat = z.toNat
  rw [pb_I_toInt ⟨by omega, by omega⟩]
theorem pb_I_in {z : Int} {n : Nat} (h0 : 0 ≤ z) (h : z < n) (hn : n ≤ 2147483648) : vp_in (pb_I z) n := by
  intro q
  rw [pb_I_clamp h0 h hn] at q
  rcases q with q | q
  · rw [Int32.lt_iff_toInt_lt, pb_I_toInt ⟨by omega, by omega⟩, Int32.toInt_zero] at q
    omega
  · omega
/-! LOCALS -/
def pb_gt : List (Option pb_V) → Nat → Option pb_V
  | [], _ => none
  | x :: _, 0 => x
  | _ :: r, k + 1 => pb_gt r k
def pb_LR (n : Nat) (L : List (Option pb_V)) (ls : Array Slot) : Prop := ls.size = n ∧ lv_wf ls ∧ ∀ (k : Nat) (v : pb_V), pb_gt L k = some v → ls[k]? = some (.val (pb_cv v))
def pb_as (L : List (Option pb_V)) : List (Nat × Value) := (List.range L.length).filterMap fun k => (pb_gt L k).map fun v => (k, pb_cv v)
theorem pb_gt_lt : ∀ {L : List (Option pb_V)} {k : Nat} {v : pb_V}, pb_gt L k = some v → k < L.length
  | [], _, _, h => by cases h
  | _ :: _, 0, _, _ => Nat.succ_pos _
  | _ :: r, k + 1, v, h => Nat.succ_lt_succ (pb_gt_lt (L := r) (k := k) h)
theorem pb_as_mem {L : List (Option pb_V)} {q : Nat × Value} : q ∈ pb_as L ↔ ∃ v, pb_gt L q.1 = some v ∧ q.2 = pb_cv v := by
  unfold pb_as
  rw [List.mem_filterMap]
  constructor
  · rintro ⟨k, -, h⟩
    cases hk : pb_gt L k with
    | none => rw [hk] at h; cases h
    | some v =>
      rw [hk] at h
      cases h
      exact ⟨v, hk, rfl⟩
  · rintro ⟨v, h1, h2⟩
    refine ⟨q.1, List.mem_range.mpr (pb_gt_lt h1), ?_⟩
    rw [h1]
    show some (q.1, pb_cv v) = some q
    rw [← h2]
theorem pb_LR_has {n : Nat} {L : List (Option pb_V)} {ls : Array Slot} : pb_LR n L ls ↔ lv_has ls n (pb_as L) := by
  constructor
  · rintro ⟨h1, h2, h3⟩
    refine ⟨h1, h2, fun q hq => ?_⟩
    obtain ⟨v, h4, h5⟩ := pb_as_mem.mp hq
    rw [h5]
    exact h3 _ _ h4
  · rintro ⟨h1, h2, h3⟩
    exact ⟨h1, h2, fun k v h => h3 (k, pb_cv v) (pb_as_mem.mpr ⟨v, h, rfl⟩)⟩
theorem pb_gt_set : ∀ {L : List (Option pb_V)} {k j : Nat} {x : Option pb_V}, k < L.length → pb_gt (L.set k x) j = if j = k then x else pb_gt L j
  | [], _, _, _, h => by cases h
  | _ :: _, 0, 0, _, _ => rfl
  | _ :: _, 0, j + 1, _, _ => by simp [pb_gt]
  | _ :: _, k + 1, 0, _, _ => by simp [pb_gt]
  | _ :: r, k + 1, j + 1, x, h => by
    have := pb_gt_set (L := r) (k := k) (j := j) (x := x) (Nat.lt_of_succ_lt_succ h)
    simp only [List.set_cons_succ, pb_gt]
    rw [this]
    by_cases hj : j = k <;> simp [hj]
/-- the value ahead is no long and no double -/
def pb_pv (L : List (Option pb_V)) (k : Nat) : Bool := match k with
  | 0 => true
  | j + 1 => match pb_gt L j with
    | some v => pb_c1 v
    | none => true
/-- a value of one slot put at k -/
theorem pb_put1 {n : Nat} {L : List (Option pb_V)} {ls' : Array Slot} {k : Nat} {v : pb_V} (hk : k < L.length) (hp : pb_pv L k = true)
    (h : lv_has ls' n ((k, pb_cv v) :: (pb_as L).filter (fun q => !(q.1 == k) && !(q.1 + 1 == k && q.2.category == 2)))) : pb_LR n (L.set k (some v)) ls' := by
  obtain ⟨h1, h2, h3⟩ := h
  refine ⟨h1, h2, fun j w hj => ?_⟩
  rw [pb_gt_set hk] at hj
  by_cases e : j = k
  · rw [if_pos e] at hj
    cases hj
    subst e
    exact h3 (j, pb_cv v) List.mem_cons_self
  · rw [if_neg e] at hj
    refine h3 (j, pb_cv w) (List.mem_cons_of_mem _ (List.mem_filter.mpr ⟨pb_as_mem.mpr ⟨w, hj, rfl⟩, ?_⟩))
    have e1 : (j == k) = false := by simp [e]
    by_cases e2 : j + 1 = k
    · subst e2
      have hp : (match pb_gt L j with | some v => pb_c1 v | none => true) = true := hp
      rw [hj] at hp
      simp [pb_c1_cat hp]
    · simp [e, e2]
/-- a value of two slots -/
theorem pb_put2 {n : Nat} {L : List (Option pb_V)} {ls' : Array Slot} {k : Nat} {v : pb_V} (hk : k + 1 < L.length) (hp : pb_pv L k = true)
    (h : lv_has ls' n ((k, pb_cv v) :: (pb_as L).filter (fun q => !(q.1 == k) && (!(q.1 == k + 1) && !(q.1 + 1 == k && q.2.category == 2))))) : pb_LR n ((L.set k (some v)).set (k + 1) none) ls' := by
  obtain ⟨h1, h2, h3⟩ := h
  refine ⟨h1, h2, fun j w hj => ?_⟩
  rw [pb_gt_set (by simpa using hk), pb_gt_set (by omega)] at hj
  by_cases e0 : j = k + 1
  · rw [if_pos e0] at hj
    cases hj
  rw [if_neg e0] at hj
  by_cases e : j = k
  · rw [if_pos e] at hj
    cases hj
    subst e
    exact h3 (j, pb_cv v) List.mem_cons_self
  · rw [if_neg e] at hj
    refine h3 (j, pb_cv w) (List.mem_cons_of_mem _ (List.mem_filter.mpr ⟨pb_as_mem.mpr ⟨w, hj, rfl⟩, ?_⟩))
    by_cases e2 : j + 1 = k
    · subst e2
      have hp : (match pb_gt L j with | some v => pb_c1 v | none => true) = true := hp
      rw [hj] at hp
      simp [pb_c1_cat hp, e0]
    · simp [e, e2, e0]
/-- put, and the list is written out anew -/
def pb_sL {α : Type} : List (Option pb_V) → Nat → Option pb_V → (List (Option pb_V) → Option α) → Option α
  | [], _, _, _ => none
  | _ :: r, 0, x, K => K (x :: r)
  | y :: r, j + 1, x, K => pb_sL r j x (fun r' => K (y :: r'))
theorem pb_sL_eq {α : Type} : ∀ {L : List (Option pb_V)} {k : Nat} {x : Option pb_V} {K : List (Option pb_V) → Option α}, pb_sL L k x K = if k < L.length then K (L.set k x) else none
  | [], _, _, _ => by simp [pb_sL]
  | _ :: _, 0, _, _ => by simp [pb_sL]
  | y :: r, k + 1, x, K => by
    rw [pb_sL, pb_sL_eq]
    simp
/-! ONE STEP of what needs no heap -/
def pb_ir (n m : Int) : Bool := decide (-m ≤ n) && decide (n < m)
def pb_ldi (L : List (Option pb_V)) (k : Nat) : Option pb_V := match pb_gt L k with
  | some (.inl z) => some (.inl z)
  | _ => none
def pb_ldj (L : List (Option pb_V)) (k : Nat) : Option pb_V := match pb_gt L k with
  | some (.inr (.inl z)) => some (.inr (.inl z))
  | _ => none
def pb_ldd (L : List (Option pb_V)) (k : Nat) : Option pb_V := match pb_gt L k with
  | some (.inr (.inr (.inl z))) => some (.inr (.inr (.inl z)))
  | _ => none
def pb_lda (L : List (Option pb_V)) (k : Nat) : Option pb_V := match pb_gt L k with
  | some (.inr (.inr (.inr z))) => some (.inr (.inr (.inr z)))
  | _ => none
/-- what an instruction pushes that takes nothing off the stack -/
def pb_ld (i : Instr) (L : List (Option pb_V)) : Option pb_V := match i with
  | .iconst n => some (.inl n)
  | .bipush n => match pb_ir n 128 with
    | true => some (.inl n)
    | false => none
  | .sipush n => match pb_ir n 32768 with
    | true => some (.inl n)
    | false => none
  | .lconst n => some (.inr (.inl (n.val : Nat)))
  | .aconst_null => some (.inr (.inr (.inr none)))
  | .iload k => pb_ldi L k
  | .iload_n k => pb_ldi L k.val
  | .lload k => pb_ldj L k
  | .lload_n k => pb_ldj L k.val
  | .dload k => pb_ldd L k
  | .dload_n k => pb_ldd L k.val
  | .aload k => pb_lda L k
  | .aload_n k => pb_lda L k.val
  | _ => none
/-- arithmetic and the stack -/
def pb_ar (i : Instr) (st : List pb_V) : Option (List pb_V) := match i with
  | .iadd => match st with
    | .inl b :: .inl a :: r => some (.inl (a + b) :: r)
    | _ => none
  | .isub => match st with
    | .inl b :: .inl a :: r => some (.inl (a - b) :: r)
    | _ => none
  | .imul => match st with
    | .inl b :: .inl a :: r => some (.inl (a * b) :: r)
    | _ => none
  | .ineg => match st with
    | .inl a :: r => some (.inl (-a) :: r)
    | _ => none
  | .ladd => match st with
    | .inr (.inl b) :: .inr (.inl a) :: r => some (.inr (.inl (a + b)) :: r)
    | _ => none
  | .i2c => match st with
    | .inl a :: r => some (.inl (a % 65536) :: r)
    | _ => none
  | .dup => match st with
    | v :: r => match pb_c1 v with
      | true => some (v :: v :: r)
      | false => none
    | _ => none
  | .dup_x1 => match st with
    | v :: w :: r => match pb_c1 v && pb_c1 w with
      | true => some (v :: w :: v :: r)
      | false => none
    | _ => none
  | .dup2 => match st with
    | v :: w :: r => match pb_c1 v && pb_c1 w with
      | true => some (v :: w :: v :: w :: r)
      | false => none
    | _ => none
  | .pop => match st with
    | v :: r => match pb_c1 v with
      | true => some r
      | false => none
    | _ => none
  | _ => none
def pb_sti (k : Nat) (st : List pb_V) : Option (Nat × pb_V × List pb_V) := match st with
  | .inl z :: r => some (k, .inl z, r)
  | _ => none
def pb_stj (k : Nat) (st : List pb_V) : Option (Nat × pb_V × List pb_V) := match st with
  | .inr (.inl z) :: r => some (k, .inr (.inl z), r)
  | _ => none
def pb_std (k : Nat) (st : List pb_V) : Option (Nat × pb_V × List pb_V) := match st with
  | .inr (.inr (.inl z)) :: r => some (k, .inr (.inr (.inl z)), r)
  | _ => none
def pb_sta (k : Nat) (st : List pb_V) : Option (Nat × pb_V × List pb_V) := match st with
  | .inr (.inr (.inr z)) :: r => some (k, .inr (.inr (.inr z)), r)
  | _ => none
/-- stores: where, what, what is left -/
def pb_so (i : Instr) (L : List (Option pb_V)) (st : List pb_V) : Option (Nat × pb_V × List pb_V) := match i with
  | .istore k => pb_sti k st
  | .istore_n k => pb_sti k.val st
  | .astore k => pb_sta k st
  | .astore_n k => pb_sta k.val st
  | .iinc k n => match pb_gt L k with
    | some (.inl z) => some (k, .inl (z + n), st)
    | _ => none
  | _ => none
def pb_so2 (i : Instr) (st : List pb_V) : Option (Nat × pb_V × List pb_V) := match i with
  | .lstore k => pb_stj k st
  | .lstore_n k => pb_stj k.val st
  | .dstore k => pb_std k st
  | .dstore_n k => pb_std k.val st
  | _ => none
def pb_s1 (i : Instr) (nx tg : Nat) (L : List (Option pb_V)) (st : List pb_V) : Option (Nat × List (Option pb_V) × List pb_V) := match pb_ld i L with
  | some v => some (nx, L, v :: st)
  | none => match pb_ar i st with
    | some st' => some (nx, L, st')
    | none => match pb_so i L st with
      | some (k, v, st') => match pb_pv L k with
        | true => pb_sL L k (some v) (fun L' => some (nx, L', st'))
        | false => none
      | none => match pb_so2 i st with
        | some (k, v, st') => match pb_pv L k with
          | true => pb_sL L k (some v) (fun L' => pb_sL L' (k + 1) none (fun L' => some (nx, L', st')))
          | false => none
        | none => match i with
          | .goto _ => some (tg, L, st)
          | _ => none
/-- the row at a place, and the rows behind it -/
def pb_fd : pb_T → Nat → Option ((Nat × Instr × Nat × Nat) × pb_T)
  | [], _ => none
  | x :: r, pc => bif Nat.beq x.1 pc then some (x, r) else pb_fd r pc
def pb_hd (T0 r : pb_T) (pc : Nat) : Option ((Nat × Instr × Nat × Nat) × pb_T) := match r with
  | [] => pb_fd T0 pc
  | x :: r' => bif Nat.beq x.1 pc then some (x, r') else pb_fd T0 pc
theorem pb_fd_ok : ∀ {T : pb_T} {pc : Nat} {x : Nat × Instr × Nat × Nat} {r : pb_T}, pb_fd T pc = some (x, r) → x ∈ T ∧ x.1 = pc ∧ ∀ y ∈ r, y ∈ T
  | [], _, _, _, h => by cases h
  | y :: T, pc, x, r, h => by
    unfold pb_fd at h
    cases hb : Nat.beq y.1 pc with
    | true =>
      rw [hb] at h
      cases h
      exact ⟨List.mem_cons_self, Nat.eq_of_beq_eq_true hb, fun z hz => List.mem_cons_of_mem _ hz⟩
    | false =>
      rw [hb] at h
      obtain ⟨h1, h2, h3⟩ := pb_fd_ok (T := T) h
      exact ⟨List.mem_cons_of_mem _ h1, h2, fun z hz => List.mem_cons_of_mem _ (h3 z hz)⟩
theorem pb_hd_ok {T0 r r' : pb_T} {pc : Nat} {x : Nat × Instr × Nat × Nat} (hr : ∀ y ∈ r, y ∈ T0) (h : pb_hd T0 r pc = some (x, r')) : x ∈ T0 ∧ x.1 = pc ∧ ∀ y ∈ r', y ∈ T0 := by
  cases r with
  | nil => exact pb_fd_ok h
  | cons y r =>
    have h : (bif Nat.beq y.1 pc then some (y, r) else pb_fd T0 pc) = some (x, r') := h
    cases hb : Nat.beq y.1 pc with
    | true =>
      rw [hb] at h
      cases h
      exact ⟨hr _ List.mem_cons_self, Nat.eq_of_beq_eq_true hb, fun z hz => hr z (List.mem_cons_of_mem _ hz)⟩
    | false =>
      rw [hb] at h
      exact pb_fd_ok h
/-- goes on until the next loop's head, or what isn't simple -/
def pb_go (T0 : pb_T) : Nat → pb_T → Nat → List (Option pb_V) → List pb_V → Option (Nat × List (Option pb_V) × List pb_V)
  | 0, _, pc, L, st => some (pc, L, st)
  | n + 1, r, pc, L, st => match pb_hd T0 r pc with
    | none => some (pc, L, st)
    | some (x, r') => match Nat.beq x.2.2.2 1 with
      | true => some (pc, L, st)
      | false => match pb_s1 x.2.1 x.2.2.1 x.2.2.2 L st with
        | none => some (pc, L, st)
        | some (pc', L', st') => pb_go T0 n r' pc' L' st'
def pb_run (T0 : pb_T) (n pc : Nat) (L : List (Option pb_V)) (st : List pb_V) : Option (Nat × List (Option pb_V) × List pb_V) := match pb_fd T0 pc with
  | none => none
  | some (x, r') => match pb_s1 x.2.1 x.2.2.1 x.2.2.2 L st with
    | none => none
    | some (pc', L', st') => pb_go T0 n r' pc' L' st'
