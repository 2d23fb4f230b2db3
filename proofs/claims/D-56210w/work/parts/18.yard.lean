set_option maxRecDepth 100000
/-- the yard as the model's array has it: what is asked of the numbers (t: how many operations were done) -/
def ya_ok (t : Nat) (f : Nat → Int) : Prop :=
  0 ≤ f 0 ∧ f 0 ≤ 6 ∧ 0 ≤ f 1 ∧ f 1 ≤ t ∧ 0 ≤ f 2 ∧ f 2 ≤ 6 ∧ 0 ≤ f 3 ∧ f 3 ≤ t ∧ 0 ≤ f 4 ∧ f 4 ≤ 999 * t ∧
  (∀ i : Nat, i < 12 → 0 ≤ f (5 + i) ∧ f (5 + i) ≤ 50) ∧ (∀ i : Nat, i < 4 → 0 ≤ f (17 + i) ∧ f (17 + i) ≤ 8) ∧
  (∀ k : Nat, k < 6 → 0 ≤ f (21 + 28 * k) ∧ f (21 + 28 * k) ≤ 3 ∧ 0 ≤ f (22 + 28 * k) ∧ f (22 + 28 * k) ≤ 8 ∧ 0 ≤ f (23 + 28 * k) ∧ f (23 + 28 * k) ≤ 999 ∧ 0 ≤ f (24 + 28 * k) ∧ f (24 + 28 * k) ≤ 63 * f 1) ∧
  (∀ k : Nat, k < 6 → ∀ j : Nat, j < 16 → 0 ≤ f (25 + 28 * k + j) ∧ f (25 + 28 * k + j) ≤ 30) ∧
  (∀ k : Nat, k < 6 → ∀ j : Nat, j < 8 → 0 ≤ f (41 + 28 * k + j) ∧ f (41 + 28 * k + j) ≤ 9) ∧
  (∀ k : Nat, k < 6 → f 0 ≤ k → ∀ j : Nat, j < 28 → f (21 + 28 * k + j) = 0) ∧
  (∀ k : Nat, k < 6 → (k : Int) < f 2 → 0 ≤ f (189 + 4 * k) ∧ f (189 + 4 * k) < f 3 ∧ 2 ≤ f (190 + 4 * k) ∧ f (190 + 4 * k) ≤ 8 ∧ 0 ≤ f (191 + 4 * k) ∧ f (191 + 4 * k) ≤ 999 ∧ 1 ≤ f (192 + 4 * k) ∧ f (192 + 4 * k) ≤ 999) ∧
  (∀ i : Nat, i < 6 → ∀ j : Nat, j < 6 → i < j → (j : Int) < f 2 → f (189 + 4 * i) < f (189 + 4 * j)) ∧ t ≤ 200000
def ya_sum (g : Nat → Int) : Nat → Int
  | 0 => 0
  | n + 1 => ya_sum g n + g n
theorem ya_sum_s (g : Nat → Int) (n : Nat) : ya_sum g (n + 1) = ya_sum g n + g n := rfl
theorem ya_sum_le {g : Nat → Int} {B : Int} : ∀ (n : Nat), (∀ j : Nat, j < n → 0 ≤ g j ∧ g j ≤ B) → 0 ≤ ya_sum g n ∧ ya_sum g n ≤ n * B
  | 0, _ => by simp [ya_sum]
  | n + 1, h => by
    have h1 := ya_sum_le n (fun j hj => h j (by omega))
    have h2 := h n (by omega)
    rw [ya_sum_s]
    have h3 : ((n + 1 : Nat) : Int) * B = n * B + B := by push_cast; rw [Int.add_mul, Int.one_mul]
    omega
/-- a frame's two widths -/
def ya_fw (f : Nat → Int) (k j : Nat) : Int := f (25 + 28 * k + 2 * j + 0) + f (25 + 28 * k + 2 * j + 1)
/-- a hull's frames, seams -/
def ya_n (f : Nat → Int) (k : Nat) : Nat := (f (22 + 28 * k)).toNat
def ya_se (f : Nat → Int) (k : Nat) : Nat := ya_n f k - 1
def ya_dry (f : Nat → Int) (k : Nat) : Int := f (23 + 28 * k) + ya_sum (ya_fw f k) (ya_n f k)
def ya_wt (f : Nat → Int) (k : Nat) : Int := ya_dry f k + f (24 + 28 * k)
def ya_wd (f : Nat → Int) (k : Nat) : Int := ya_sum (fun j => ya_fw f k j + ya_fw f k (j + 1)) (ya_se f k)
/-- the least draught from d on that bears the weight -/
def ya_drF (wide w : Int) : Nat → Nat → Int
  | _, 0 => -1
  | d, n + 1 => if w ≤ wide * d / 2 then d else ya_drF wide w (d + 1) n
def ya_dr (wide w : Int) : Int := ya_drF wide w 0 41
theorem ya_ok.hull {t : Nat} {f : Nat → Int} (h : ya_ok t f) {k : Nat} (hk : k < 6) : 0 ≤ f (21 + 28 * k) ∧ f (21 + 28 * k) ≤ 3 ∧ 0 ≤ f (22 + 28 * k) ∧ f (22 + 28 * k) ≤ 8 ∧ 0 ≤ f (23 + 28 * k) ∧ f (23 + 28 * k) ≤ 999 ∧ 0 ≤ f (24 + 28 * k) ∧ f (24 + 28 * k) ≤ 63 * f 1 := h.2.2.2.2.2.2.2.2.2.2.2.2.1 k hk
theorem ya_ok.wid {t : Nat} {f : Nat → Int} (h : ya_ok t f) {k : Nat} (hk : k < 6) {j : Nat} (hj : j < 16) : 0 ≤ f (25 + 28 * k + j) ∧ f (25 + 28 * k + j) ≤ 30 := h.2.2.2.2.2.2.2.2.2.2.2.2.2.1 k hk j hj
theorem ya_ok.cau {t : Nat} {f : Nat → Int} (h : ya_ok t f) {k : Nat} (hk : k < 6) {j : Nat} (hj : j < 8) : 0 ≤ f (41 + 28 * k + j) ∧ f (41 + 28 * k + j) ≤ 9 := h.2.2.2.2.2.2.2.2.2.2.2.2.2.2.1 k hk j hj
theorem ya_ok.tid {t : Nat} {f : Nat → Int} (h : ya_ok t f) {i : Nat} (hi : i < 12) : 0 ≤ f (5 + i) ∧ f (5 + i) ≤ 50 := h.2.2.2.2.2.2.2.2.2.2.1 i hi
theorem ya_ok.sli {t : Nat} {f : Nat → Int} (h : ya_ok t f) {i : Nat} (hi : i < 4) : 0 ≤ f (17 + i) ∧ f (17 + i) ≤ 8 := h.2.2.2.2.2.2.2.2.2.2.2.1 i hi
theorem ya_ok.zer {t : Nat} {f : Nat → Int} (h : ya_ok t f) {k : Nat} (hk : k < 6) (h0 : f 0 ≤ k) {j : Nat} (hj : j < 28) : f (21 + 28 * k + j) = 0 := h.2.2.2.2.2.2.2.2.2.2.2.2.2.2.2.1 k hk h0 j hj
theorem ya_ok.ord {t : Nat} {f : Nat → Int} (h : ya_ok t f) {k : Nat} (hk : k < 6) (h0 : (k : Int) < f 2) : 0 ≤ f (189 + 4 * k) ∧ f (189 + 4 * k) < f 3 ∧ 2 ≤ f (190 + 4 * k) ∧ f (190 + 4 * k) ≤ 8 ∧ 0 ≤ f (191 + 4 * k) ∧ f (191 + 4 * k) ≤ 999 ∧ 1 ≤ f (192 + 4 * k) ∧ f (192 + 4 * k) ≤ 999 := h.2.2.2.2.2.2.2.2.2.2.2.2.2.2.2.2.1 k hk h0
theorem ya_ok.num {t : Nat} {f : Nat → Int} (h : ya_ok t f) : 0 ≤ f 0 ∧ f 0 ≤ 6 ∧ 0 ≤ f 1 ∧ f 1 ≤ t ∧ 0 ≤ f 2 ∧ f 2 ≤ 6 ∧ 0 ≤ f 3 ∧ f 3 ≤ t ∧ 0 ≤ f 4 ∧ f 4 ≤ 999 * t ∧ t ≤ 200000 := ⟨h.1, h.2.1, h.2.2.1, h.2.2.2.1, h.2.2.2.2.1, h.2.2.2.2.2.1, h.2.2.2.2.2.2.1, h.2.2.2.2.2.2.2.1, h.2.2.2.2.2.2.2.2.1, h.2.2.2.2.2.2.2.2.2.1, h.2.2.2.2.2.2.2.2.2.2.2.2.2.2.2.2.2.2⟩
theorem ya_ok.nn {t : Nat} {f : Nat → Int} (h : ya_ok t f) {k : Nat} (hk : k < 6) : f (22 + 28 * k) = (ya_n f k : Int) ∧ ya_n f k ≤ 8 := by
  have h1 := h.hull hk
  unfold ya_n
  omega
theorem ya_ok.fw {t : Nat} {f : Nat → Int} (h : ya_ok t f) {k : Nat} (hk : k < 6) {j : Nat} (hj : j < 8) : 0 ≤ ya_fw f k j ∧ ya_fw f k j ≤ 60 := by
  have h1 := h.wid hk (j := 2 * j) (by omega)
  have h2 := h.wid hk (j := 2 * j + 1) (by omega)
  unfold ya_fw
  rw [Nat.add_assoc] at h1
  constructor
  · have e1 : 25 + 28 * k + 2 * j + 0 = 25 + (28 * k + 2 * j) := by omega
    have e2 : 25 + 28 * k + 2 * j + 1 = 25 + 28 * k + (2 * j + 1) := by omega
    rw [e1, e2]; omega
  · have e1 : 25 + 28 * k + 2 * j + 0 = 25 + (28 * k + 2 * j) := by omega
    have e2 : 25 + 28 * k + 2 * j + 1 = 25 + 28 * k + (2 * j + 1) := by omega
    rw [e1, e2]; omega
theorem ya_ok.dry {t : Nat} {f : Nat → Int} (h : ya_ok t f) {k : Nat} (hk : k < 6) : 0 ≤ ya_dry f k ∧ ya_dry f k ≤ 1479 := by
  have h1 := h.hull hk
  have h2 := h.nn hk
  have h3 := ya_sum_le (g := ya_fw f k) (B := 60) (ya_n f k) (fun j hj => h.fw hk (by omega))
  unfold ya_dry
  omega
theorem ya_ok.wt {t : Nat} {f : Nat → Int} (h : ya_ok t f) {k : Nat} (hk : k < 6) : 0 ≤ ya_wt f k ∧ ya_wt f k ≤ 1479 + 63 * f 1 := by
  have h1 := h.hull hk
  have h2 := h.dry hk
  unfold ya_wt
  omega
theorem ya_ok.wd {t : Nat} {f : Nat → Int} (h : ya_ok t f) {k : Nat} (hk : k < 6) : 0 ≤ ya_wd f k ∧ ya_wd f k ≤ 840 := by
  have h2 := h.nn hk
  have h3 := ya_sum_le (g := fun j => ya_fw f k j + ya_fw f k (j + 1)) (B := 120) (ya_se f k) (fun j hj => by
    unfold ya_se at hj
    have a1 := h.fw hk (j := j) (by omega)
    have a2 := h.fw hk (j := j + 1) (by omega)
    constructor
    · show 0 ≤ ya_fw f k j + ya_fw f k (j + 1); omega
    · show ya_fw f k j + ya_fw f k (j + 1) ≤ 120; omega)
  unfold ya_wd
  have : ya_se f k ≤ 7 := by unfold ya_se; omega
  omega
def ya_fr (f : Nat → Int) (k : Nat) : Prop := 0 ≤ f (22 + 28 * k) ∧ f (22 + 28 * k) ≤ 8
theorem ya_ok.fr {t : Nat} {f : Nat → Int} (h : ya_ok t f) {k : Nat} (hk : k < 6) : ya_fr f k := ⟨(h.hull hk).2.2.1, (h.hull hk).2.2.2.1⟩
theorem ya_fr.nn {f : Nat → Int} {k : Nat} (h : ya_fr f k) : f (22 + 28 * k) = (ya_n f k : Int) ∧ ya_n f k ≤ 8 := by
  have h1 := h.1
  have h2 := h.2
  unfold ya_n
  omega
theorem ya_fr.se {f : Nat → Int} {k : Nat} (h : ya_fr f k) : ya_se f k ≤ 7 := by
  have := h.nn
  unfold ya_se
  omega
/-- what is asked of a hull's numbers -/
def ya_hok (f : Nat → Int) (k : Nat) : Prop :=
  (0 ≤ f (21 + 28 * k) ∧ f (21 + 28 * k) ≤ 3 ∧ 0 ≤ f (22 + 28 * k) ∧ f (22 + 28 * k) ≤ 8 ∧ 0 ≤ f (23 + 28 * k) ∧ f (23 + 28 * k) ≤ 999 ∧ 0 ≤ f (24 + 28 * k) ∧ f (24 + 28 * k) ≤ 63 * f 1) ∧
  (∀ j : Nat, j < 16 → 0 ≤ f (25 + 28 * k + j) ∧ f (25 + 28 * k + j) ≤ 30) ∧ (∀ j : Nat, j < 8 → 0 ≤ f (41 + 28 * k + j) ∧ f (41 + 28 * k + j) ≤ 9) ∧
  (f 0 ≤ k → ∀ j : Nat, j < 28 → f (21 + 28 * k + j) = 0)
theorem ya_ok.hok {t : Nat} {f : Nat → Int} (h : ya_ok t f) {k : Nat} (hk : k < 6) : ya_hok f k := ⟨h.hull hk, fun j hj => h.wid hk hj, fun j hj => h.cau hk hj, fun h0 j hj => h.zer hk h0 hj⟩
theorem ya_ok.mk {t : Nat} {f : Nat → Int} (h1 : 0 ≤ f 0 ∧ f 0 ≤ 6 ∧ 0 ≤ f 1 ∧ f 1 ≤ t ∧ 0 ≤ f 2 ∧ f 2 ≤ 6 ∧ 0 ≤ f 3 ∧ f 3 ≤ t ∧ 0 ≤ f 4 ∧ f 4 ≤ 999 * t ∧ t ≤ 200000) (h2 : ∀ i : Nat, i < 12 → 0 ≤ f (5 + i) ∧ f (5 + i) ≤ 50) (h3 : ∀ i : Nat, i < 4 → 0 ≤ f (17 + i) ∧ f (17 + i) ≤ 8) (h4 : ∀ k : Nat, k < 6 → ya_hok f k)
    (h5 : ∀ k : Nat, k < 6 → (k : Int) < f 2 → 0 ≤ f (189 + 4 * k) ∧ f (189 + 4 * k) < f 3 ∧ 2 ≤ f (190 + 4 * k) ∧ f (190 + 4 * k) ≤ 8 ∧ 0 ≤ f (191 + 4 * k) ∧ f (191 + 4 * k) ≤ 999 ∧ 1 ≤ f (192 + 4 * k) ∧ f (192 + 4 * k) ≤ 999)
    (h6 : ∀ i : Nat, i < 6 → ∀ j : Nat, j < 6 → i < j → (j : Int) < f 2 → f (189 + 4 * i) < f (189 + 4 * j)) : ya_ok t f := by
  obtain ⟨a0, a1, a2, a3, a4, a5, a6, a7, a8, a9, a10⟩ := h1
  exact ⟨a0, a1, a2, a3, a4, a5, a6, a7, a8, a9, h2, h3, fun k hk => (h4 k hk).1, fun k hk => (h4 k hk).2.1, fun k hk => (h4 k hk).2.2.1, fun k hk => (h4 k hk).2.2.2, h5, h6, a10⟩
theorem ya_ok.asc {t : Nat} {f : Nat → Int} (h : ya_ok t f) {i j : Nat} (hj : j < 6) (hij : i < j) (h0 : (j : Int) < f 2) : f (189 + 4 * i) < f (189 + 4 * j) := h.2.2.2.2.2.2.2.2.2.2.2.2.2.2.2.2.2.1 i (by omega) j hj hij h0
/-- another hull's numbers, unchanged -/
theorem ya_hok.eq {f g : Nat → Int} {k : Nat} (h : ya_hok f k) (h0 : f 0 ≤ g 0) (h1 : f 1 ≤ g 1) (e : ∀ i, 21 + 28 * k ≤ i → i < 49 + 28 * k → g i = f i) : ya_hok g k := by
  obtain ⟨a, b, c, d⟩ := h
  refine ⟨?_, fun j hj => ?_, fun j hj => ?_, fun z j hj => ?_⟩
  · rw [e _ (by omega) (by omega), e _ (by omega) (by omega), e _ (by omega) (by omega), e _ (by omega) (by omega)]; omega
  · rw [e _ (by omega) (by omega)]; exact b j hj
  · rw [e _ (by omega) (by omega)]; exact c j hj
  · rw [e _ (by omega) (by omega)]; exact d (by omega) j hj
/-- nothing but hulls, the count of hulls and the hour changes -/
theorem ya_ok.hulls {t t' : Nat} {f g : Nat → Int} (h : ya_ok t f) (ht : t ≤ t') (ht2 : t' ≤ 200000) (h0 : f 0 ≤ g 0 ∧ g 0 ≤ 6) (h1 : f 1 ≤ g 1 ∧ g 1 ≤ t') (e : ∀ i, 2 ≤ i → i < 21 ∨ 189 ≤ i → g i = f i) (hh : ∀ k : Nat, k < 6 → ya_hok g k) : ya_ok t' g := by
  have hn := h.num
  refine ya_ok.mk ?_ (fun i hi => ?_) (fun i hi => ?_) hh (fun k hk h9 => ?_) (fun i hi j hj hij h9 => ?_)
  · rw [e 2 (by omega) (by omega), e 3 (by omega) (by omega), e 4 (by omega) (by omega)]; omega
  · rw [e _ (by omega) (by omega)]; exact h.tid hi
  · rw [e _ (by omega) (by omega)]; exact h.sli hi
  · rw [e 2 (by omega) (by omega)] at h9
    rw [e 3 (by omega) (by omega), e _ (by omega) (by omega), e _ (by omega) (by omega), e _ (by omega) (by omega), e _ (by omega) (by omega)]
    exact h.ord hk h9
  · rw [e 2 (by omega) (by omega)] at h9
    rw [e _ (by omega) (by omega), e _ (by omega) (by omega)]
    exact h.asc hj hij h9
