set_option maxRecDepth 100000
theorem va_upC {α : Type} (f : Nat → α) {i j : Nat} (v w : α) (h : i ≠ j) : va_up (va_up f i v) j w = va_up (va_up f j w) i v := by
  funext q
  unfold va_up
  by_cases c1 : q = j <;> by_cases c2 : q = i <;> simp [c1, c2] <;> omega
theorem hu_miO (f : Nat → Int) (k : Nat) : ∀ (j i : Nat), i < 25 + 28 * k ∨ 25 + 28 * k + 2 * j ≤ i → sp_miF f k j i = f i
  | 0, _, _ => rfl
  | j + 1, i, h => by
    unfold sp_miF
    rw [va_upN _ _ (by omega), va_upN _ _ (by omega)]
    exact hu_miO f k j i (by omega)
theorem ya_n_cg {f g : Nat → Int} {k : Nat} (h : g (22 + 28 * k) = f (22 + 28 * k)) : ya_n g k = ya_n f k := by unfold ya_n; rw [h]
theorem ya_se_cg {f g : Nat → Int} {k : Nat} (h : g (22 + 28 * k) = f (22 + 28 * k)) : ya_se g k = ya_se f k := by unfold ya_se; rw [ya_n_cg h]
/-- a hull's hour: the seams below s -/
def cp_s (f : Nat → Int) (k : Nat) (hr : Int) : Nat → (Nat → Int)
  | 0 => f
  | s + 1 => va_up (va_up (cp_s f k hr s) (24 + 28 * k) (cp_s f k hr s (24 + 28 * k) + (9 - cp_s f k hr s (41 + 28 * k + s)))) (41 + 28 * k + s) (cp_s f k hr s (41 + 28 * k + s) - (if hr % 6 = 0 ∧ 0 < cp_s f k hr s (41 + 28 * k + s) then 1 else 0))
def cp_g (f : Nat → Int) (k : Nat) (hr : Int) : Nat → Int := cp_s f k hr (ya_se f k)
/-- whether it sinks -/
def cp_r (f : Nat → Int) (k : Nat) (hr : Int) : Int := if f (21 + 28 * k) = 1 ∧ ¬ ya_wt (cp_g f k hr) k ≤ ya_wd (cp_g f k hr) k * 40 / 2 then 1 else 0
def cp_h (f : Nat → Int) (k : Nat) (hr : Int) : Nat → Int := if f (21 + 28 * k) = 1 then (if ya_wt (cp_g f k hr) k ≤ ya_wd (cp_g f k hr) k * 40 / 2 then cp_g f k hr else va_up (cp_g f k hr) (21 + 28 * k) 3) else f
theorem cp_s_out (f : Nat → Int) (k : Nat) (hr : Int) : ∀ (s i : Nat), i ≠ 24 + 28 * k → (i < 41 + 28 * k ∨ 41 + 28 * k + s ≤ i) → cp_s f k hr s i = f i
  | 0, _, _, _ => rfl
  | s + 1, i, h, h2 => by
    unfold cp_s
    rw [va_upN _ _ (by omega), va_upN _ _ h]
    exact cp_s_out f k hr s i h (by omega)
theorem cp_s_rg (f : Nat → Int) (k : Nat) (hr : Int) (ok : ya_hok f k) : ∀ (s : Nat), s ≤ 8 → (∀ j, j < 8 → 0 ≤ cp_s f k hr s (41 + 28 * k + j) ∧ cp_s f k hr s (41 + 28 * k + j) ≤ 9) ∧ 0 ≤ cp_s f k hr s (24 + 28 * k) ∧ cp_s f k hr s (24 + 28 * k) ≤ f (24 + 28 * k) + 9 * s
  | 0, _ => ⟨fun j hj => ok.2.2.1 j hj, by show 0 ≤ f _ ∧ f _ ≤ _; have := ok.1; omega⟩
  | s + 1, h => by
    obtain ⟨h1, h2⟩ := cp_s_rg f k hr ok s (by omega)
    have h3 := h1 s (by omega)
    unfold cp_s
    refine ⟨fun j hj => ?_, ?_⟩
    · by_cases e : j = s
      · subst e
        rw [va_upS]
        split <;> omega
      · rw [va_upN _ _ (by omega), va_upN _ _ (by omega)]
        exact h1 j hj
    · rw [va_upN _ _ (by omega), va_upS]
      omega
theorem cp_s_ok {f : Nat → Int} {k : Nat} (hr : Int) (ok : hu_ok f k) (hw : f (24 + 28 * k) + 63 ≤ 63 * f 1) (hk : f 0 ≤ k → f (22 + 28 * k) = 0) {s : Nat} (hs : s ≤ ya_se f k) : hu_ok (cp_s f k hr s) k := by
  have hn := ok.nn
  have hs7 : s ≤ 7 := by unfold ya_se at hs; omega
  have ok1 := ok.1
  have out : ∀ i, i ≠ 24 + 28 * k → (i < 41 + 28 * k ∨ 41 + 28 * k + s ≤ i) → cp_s f k hr s i = f i := cp_s_out f k hr s
  obtain ⟨h1, h2⟩ := cp_s_rg f k hr ok1 s (by omega)
  refine ⟨⟨?_, fun j hj => ?_, h1, fun h0 j hj => ?_⟩, ?_⟩
  · have := ok1.1
    rw [out _ (by omega) (by omega), out _ (by omega) (by omega), out _ (by omega) (by omega), out 1 (by omega) (by omega)]
    omega
  · rw [out _ (by omega) (by omega)]
    exact ok1.2.1 j hj
  · rw [out 0 (by omega) (by omega)] at h0
    have h5 := hk h0
    have e0 : s = 0 := by unfold ya_se ya_n at hs; rw [h5] at hs; omega
    subst e0
    exact ok1.2.2.2 h0 j hj
  · rw [out 1 (by omega) (by omega)]
    exact ok.2
/-- the four addresses of a hull -/
def hu_B (o l c e : Nat) : Nat → Nat := fun i => match i with
  | 0 => o
  | 1 => l
  | 2 => c
  | _ => e
theorem hu_W.cg {K : co_K} {h : pb_H} {B : Nat → Nat} {k : Nat} {f g : Nat → Int} (hW : hu_W K h B k f) (h8 : ya_n f k ≤ 8) (hg : ∀ j, j < 28 → g (21 + 28 * k + j) = f (21 + 28 * k + j)) : hu_W K h B k g := by
  have e0 := hg 0 (by omega)
  have e1 := hg 1 (by omega)
  have e2 := hg 2 (by omega)
  have e3 := hg 3 (by omega)
  rw [show 21 + 28 * k + 0 = 21 + 28 * k by omega] at e0
  rw [show 21 + 28 * k + 1 = 22 + 28 * k by omega] at e1
  rw [show 21 + 28 * k + 2 = 23 + 28 * k by omega] at e2
  rw [show 21 + 28 * k + 3 = 24 + 28 * k by omega] at e3
  obtain ⟨k1, ⟨q, k2, k3⟩, ⟨c, k4, k5⟩, k6⟩ := hW
  have hn : ya_n g k = ya_n f k := ya_n_cg e1
  refine ⟨by rw [e0, e2, e3]; exact k1, ⟨q, by rw [hn]; exact k2, fun j hj => ?_⟩, ⟨c, k4, fun j hj => ?_⟩, k6⟩
  · rw [hn] at hj
    have a1 := hg (4 + 2 * j) (by omega)
    have a2 := hg (5 + 2 * j) (by omega)
    rw [show 21 + 28 * k + (4 + 2 * j) = 25 + 28 * k + 2 * j + 0 by omega] at a1
    rw [show 21 + 28 * k + (5 + 2 * j) = 25 + 28 * k + 2 * j + 1 by omega] at a2
    rw [a1, a2]
    exact k3 j hj
  · have a1 := hg (20 + j) (by omega)
    rw [show 21 + 28 * k + (20 + j) = 41 + 28 * k + j by omega] at a1
    rw [k5 j hj, ya_se_cg e1, a1]
section HULL3
variable {G : pb_G} {K : co_K} {h : pb_H} {B : Nat → Nat} {k : Nat} {f : Nat → Int}
theorem hu_mirror (hW : hu_W K h B k f) (ok : hu_ok f k) : pb_Ctr G mX6_mirror 4 8 16 [pb_r (B 0)] h (fun oc h' => oc = .inl (some (pb_i (sp_miC f k (ya_n f k)))) ∧ hu_W K h' B k (sp_miF f k (ya_n f k)) ∧ fr_P (fun b _ => b ≠ B 1 ∧ (b ≠ B 3 ∨ b = co_E K)) h h') := by
  have hn := ok.nn
  refine pb_Ctr.of rfl rfl rfl tX6_mirror_ok rfl ?_
  (try refine pb_Ex.run rfl ?_)
  refine pb_Ex.fin (fun hf0 => ?_)
  have loop : ∀ (d j : Nat) (z w : Int) (h1 : pb_H) (c0 u0 : Nat) (y1 y2 : Option pb_V), j + d = ya_n f k → z = j → w = sp_miC f k j → hu_W K h1 B k (sp_miF f k j) → fr_P (fun b _ => b ≠ B 1 ∧ (b ≠ B 3 ∨ b = co_E K)) h h1 → c0 + d ≤ 8 → u0 + 2 * d ≤ 16 → pb_Ex G mX6_mirror 4 8 16 (fun oc h' => oc = .inl (some (pb_i (sp_miC f k (ya_n f k)))) ∧ hu_W K h' B k (sp_miF f k (ya_n f k)) ∧ fr_P (fun b _ => b ≠ B 1 ∧ (b ≠ B 3 ∨ b = co_E K)) h h') c0 u0 4 [some (pb_r (B 0)), some (pb_i w), some (pb_i z), y1, y2] [] h1 := by
    intro d
    induction d with
    | zero =>
      intro j z w h1 c0 u0 y1 y2 hj hz hw hW1 hx hc hu
      have e : j = ya_n f k := by omega
      subst e
      have hn1 : ya_n (sp_miF f k (ya_n f k)) k = ya_n f k := ya_n_cg (hu_miO f k _ _ (by omega))
      refine pb_Ex.run rfl ?_
      refine pb_Ex.pV rfl rfl rfl rfl (hW1.1) rfl rfl (hu_size hW1) (by omega) (by omega) (by omega) ?_
      (try refine pb_Ex.run rfl ?_)
      rw [hn1]
      refine pb_Ex.icmpT rfl (by omega) (by omega) (by first | decide | (simp only [pb_cmp]; omega) | simp [pb_cmp]) ?_
      (try refine pb_Ex.run rfl ?_)
      rw [hw]
      refine pb_Ex.iret rfl rfl (by omega) (by omega) (⟨rfl, hW1, hx⟩)
    | succ d ih =>
      intro j z w h1 c0 u0 y1 y2 hj hz hw hW1 hx hc hu
      subst hz
      have hn1 : ya_n (sp_miF f k j) k = ya_n f k := ya_n_cg (hu_miO f k _ _ (by omega))
      have o1 : sp_miF f k j (25 + 28 * k + 2 * j + 0) = f (25 + 28 * k + 2 * j + 0) := hu_miO f k j _ (by omega)
      have o2 : sp_miF f k j (25 + 28 * k + 2 * j + 1) = f (25 + 28 * k + 2 * j + 1) := hu_miO f k j _ (by omega)
      have hw9 := ok.wid (j := j) (by omega)
      have hW1' := hW1
      obtain ⟨l1, ⟨g, l2, l3⟩, l4, l5⟩ := hW1
      obtain ⟨mc, ho⟩ := l2.obj
      have l3j := l3 j (by omega)
      refine pb_Ex.run rfl ?_
      refine pb_Ex.fin (fun hf => ?_)
      refine pb_Ex.pV rfl rfl rfl rfl (l1) rfl rfl (hu_size hW1') (by omega) (by omega) (by omega) ?_
      (try refine pb_Ex.run rfl ?_)
      rw [hn1]
      refine pb_Ex.icmpF rfl (by omega) (by omega) (by first | decide | (simp only [pb_cmp]; omega) | simp [pb_cmp]) ?_
      (try refine pb_Ex.run rfl ?_)
      refine pb_Ex.getf rfl rfl l1 rfl ?_
      (try refine pb_Ex.run rfl ?_)
      refine pb_Ex.pV rfl rfl rfl rfl (ho) rfl rfl (ja_get l2 j (by omega)) (by omega) (by omega) (by omega) ?_
      (try refine pb_Ex.run rfl ?_)
      refine pb_Ex.cast0 rfl rfl (l3j) (fun r hr => by cases hr; rfl) ?_
      (try refine pb_Ex.run rfl ?_)
      refine pb_Ex.getf rfl rfl l1 rfl ?_
      (try refine pb_Ex.run rfl ?_)
      refine pb_Ex.cV rfl rfl rfl rfl l3j rfl rfl (fm_mirrored l3j) ⟨by omega, by omega, by omega⟩ (fun v h2 hq => ?_) (fun E q9 h2 hq => by cases hq.1)
      obtain ⟨e1, e2, e3, e4⟩ := hq
      cases e1
      (try refine pb_Ex.run rfl ?_)
      have hx2 : fr_x h1 h2 := ⟨by omega, fun b c hb _ => by have := hf _ _ hb; rw [e4 _ (by omega)]; exact hb⟩
      have l2' := l2.x hx2
      obtain ⟨mc2, ho2⟩ := l2'.obj
      refine pb_Ex.cV rfl rfl rfl rfl ho2 rfl rfl (ja_set l2' j (by omega) e3 (by decide)) ⟨by omega, by omega, by omega⟩ (fun v h3 hq => ?_) (fun E q9 h2 hq => by cases hq.1)
      obtain ⟨e5, e6, e7, e8, e9⟩ := hq
      cases e5
      have hgB : ∀ i, i < ya_n f k → g i ≠ B 1 ∧ g i ≠ B 3 ∧ g i < h1.1 := fun i hi => by
        have q1 := l3 i (by omega)
        have q2 := hf _ _ q1
        obtain ⟨mc3, cap3, qq3, a1, a2, -⟩ := l2
        exact ⟨(fun z => by rw [z, a1] at q1; cases q1), (fun z => by rw [z, a2] at q1; cases q1), q2⟩
      have h3old : ∀ b c, h1.2 b = some c → b ≠ B 1 → b ≠ B 3 → h3.2 b = some c := fun b c hb h1' h2' => by rw [e9 b h1' h2']; exact hx2.at hb
      have l3j3 : h3.2 (g j) = some (pb_ob 6 [pb_i (sp_miF f k j (25 + 28 * k + 2 * j + 0)), pb_i (sp_miF f k j (25 + 28 * k + 2 * j + 1))]) := h3old _ _ l3j (hgB j (by omega)).1 (hgB j (by omega)).2.1
      have hB1 : B 1 < h1.1 := hf _ _ ho
      have hB3 : B 3 < h1.1 := by
        obtain ⟨mc3, cap3, qq3, a1, a2, -⟩ := l2
        exact hf _ _ a2
      have hnx : h3.2 h1.1 = some (pb_ob 6 [pb_i (sp_miF f k j (25 + 28 * k + 2 * j + 1)), pb_i (sp_miF f k j (25 + 28 * k + 2 * j + 0))]) := by rw [e9 _ (by omega) (by omega)]; exact e3
      (try refine pb_Ex.run rfl ?_)
      refine pb_Ex.cast0 rfl rfl (l3j3) (fun r hr => by cases hr; rfl) ?_
      (try refine pb_Ex.run rfl ?_)
      refine pb_Ex.getf rfl rfl l3j3 rfl ?_
      (try refine pb_Ex.run rfl ?_)
      refine pb_Ex.getf rfl rfl l3j3 rfl ?_
      (try refine pb_Ex.run rfl ?_)
      have hW3 : hu_W K h3 B k (sp_miF f k (j + 1)) := by
        have out : ∀ i, i ≠ 25 + 28 * k + 2 * j → i ≠ 26 + 28 * k + 2 * j → sp_miF f k (j + 1) i = sp_miF f k j i := fun i a1 a2 => by
          show va_up (va_up _ _ _) _ _ i = _
          rw [va_upN _ _ a2, va_upN _ _ a1]
        have hn3 : ya_n (sp_miF f k (j + 1)) k = ya_n (sp_miF f k j) k := ya_n_cg (out _ (by omega) (by omega))
        have hB0 : h3.2 (B 0) = h1.2 (B 0) := by
          rw [l1]
          refine h3old _ _ l1 (fun z => by rw [z, ho] at l1; cases l1) (fun z => by obtain ⟨mc3, cap3, qq3, a1, a2, -⟩ := l2; rw [z, a2] at l1; cases l1)
        refine ⟨?_, ⟨va_up g j h1.1, by rw [hn3]; exact e6, fun i hi => ?_⟩, ?_, l5⟩
        · rw [hB0, l1, out _ (by omega) (by omega), out _ (by omega) (by omega), out _ (by omega) (by omega)]
        · rw [hn3, hn1] at hi
          by_cases c : i = j
          · subst c
            rw [va_upS, hnx]
            have a1 : sp_miF f k (i + 1) (25 + 28 * k + 2 * i + 0) = sp_miF f k i (25 + 28 * k + 2 * i + 1) := by
              show va_up (va_up _ _ _) _ _ _ = _
              rw [va_upN _ _ (by omega), show 25 + 28 * k + 2 * i + 0 = 25 + 28 * k + 2 * i from rfl, va_upS]
            have a2 : sp_miF f k (i + 1) (25 + 28 * k + 2 * i + 1) = sp_miF f k i (25 + 28 * k + 2 * i + 0) := by
              show va_up (va_up _ _ _) _ _ _ = _
              rw [show 25 + 28 * k + 2 * i + 1 = 26 + 28 * k + 2 * i by omega, va_upS]
            rw [a1, a2]
          · rw [va_upN _ _ c, out _ (by omega) (by omega), out _ (by omega) (by omega)]
            obtain ⟨b1, b2, b3⟩ := hgB i hi
            exact h3old _ _ (l3 i (by omega)) b1 b2
        · obtain ⟨c, k4, k5⟩ := l4
          refine ⟨c, h3old _ _ k4 (fun z => by rw [z, ho] at k4; cases k4) (fun z => by obtain ⟨mc3, cap3, qq3, a1, a2, -⟩ := l2; rw [z, a2] at k4; cases k4), fun i hi => ?_⟩
          rw [k5 i hi, ya_se_cg (out _ (by omega) (by omega)), out _ (by omega) (by omega)]
      have hx3 : fr_P (fun b _ => b ≠ B 1 ∧ (b ≠ B 3 ∨ b = co_E K)) h h3 := hx.tr ⟨by omega, fun b c hb hP => h3old b c hb hP.1 (hP.2.elim id (fun z z2 => e8 (by rw [← z2]; exact z)))⟩
      have eC : sp_miC f k (j + 1) = sp_miC f k j + (if sp_miF f k j (25 + 28 * k + 2 * j + 0) = sp_miF f k j (25 + 28 * k + 2 * j + 1) then 0 else 1) := rfl
      refine pb_Ex.icmp_ne rfl (by omega) (by omega) (fun c => ?_) (fun c => ?_)
      · refine pb_Ex.run rfl ?_
        rw [if_neg c] at eC
        exact ih (j + 1) _ _ h3 _ _ _ _ (by omega) (by omega) (by rw [eC, hw]) hW3 hx3 (by omega) (by omega)
      · refine pb_Ex.run rfl ?_
        rw [if_pos c] at eC
        exact ih (j + 1) _ _ h3 _ _ _ _ (by omega) (by omega) (by rw [eC, hw]) hW3 hx3 (by omega) (by omega)
  exact loop (ya_n f k) 0 0 0 h 0 0 none none (by omega) rfl rfl hW fr_P.rf (by omega) (by omega)
theorem hu_sinksIn (hG : co_G G K) (hW : hu_W K h B k f) (ok : hu_ok f k) (hw : f (24 + 28 * k) + 63 ≤ 63 * f 1) (hk : f 0 ≤ k → f (22 + 28 * k) = 0) (hr : Int) (hhr : 0 ≤ hr ∧ hr ≤ 1000000) : pb_Ctr G mX6_sinksIn 6 1 2 [pb_r (B 0), pb_i hr] h (fun oc h' => oc = .inl (some (pb_i (cp_r f k hr))) ∧ hu_W K h' B k (cp_h f k hr) ∧ fr_P (fun b _ => b ≠ B 0 ∧ b ≠ B 2) h h') := by
  have hn := ok.nn
  unfold cp_r cp_h
  by_cases c : f (21 + 28 * k) = 1
  · rw [if_pos c]
    refine pb_Ctr.of rfl rfl rfl tX6_sinksIn_ok rfl ?_
    (try refine pb_Ex.run rfl ?_)
    refine pb_Ex.gets rfl (hG.2.2.2.2.1 1 (by omega)).1 q833 ?_
    refine pb_Ex.pV rfl rfl rfl rfl (hW.1) rfl rfl (hu_is hG hW ok 1 (by omega)) (by omega) (by omega) (by omega) ?_
    (try refine pb_Ex.run rfl ?_)
    rw [if_pos (show f (21 + 28 * k) = ((1 : Nat) : Int) from c)]
    refine pb_Ex.ifT rfl (by omega) (by first | decide | (simp only [pb_cmp]; omega) | simp [pb_cmp]) ?_
    (try refine pb_Ex.run rfl ?_)
    have hse7 : ya_se f k ≤ 7 := by unfold ya_se; omega
    have loop : ∀ (d j : Nat) (z : Int) (h1 : pb_H), j + d = ya_se f k → z = j → hu_W K h1 B k (cp_s f k hr j) → fr_P (fun b _ => b ≠ B 0 ∧ b ≠ B 2) h h1 → pb_Ex G mX6_sinksIn 6 1 2 (fun oc h' => oc = .inl (some (pb_i (if f (21 + 28 * k) = 1 ∧ ¬ ya_wt (cp_g f k hr) k ≤ ya_wd (cp_g f k hr) k * 40 / 2 then 1 else 0))) ∧ hu_W K h' B k (if ya_wt (cp_g f k hr) k ≤ ya_wd (cp_g f k hr) k * 40 / 2 then cp_g f k hr else va_up (cp_g f k hr) (21 + 28 * k) 3) ∧ fr_P (fun b _ => b ≠ B 0 ∧ b ≠ B 2) h h') 0 0 14 [some (pb_r (B 0)), some (pb_i hr), some (pb_i z)] [] h1 := by
      intro d
      induction d with
      | zero =>
        intro j z h1 hj hz hW1 hx
        have e : j = ya_se f k := by omega
        subst e
        have ok1 := cp_s_ok hr ok hw hk (Nat.le_refl _)
        have hse1 : ya_se (cp_s f k hr (ya_se f k)) k = ya_se f k := ya_se_cg (cp_s_out f k hr _ _ (by omega) (by omega))
        have hst1 : cp_s f k hr (ya_se f k) (21 + 28 * k) = 1 := by rw [cp_s_out f k hr _ _ (by omega) (by omega)]; exact c
        refine pb_Ex.run rfl ?_
        refine pb_Ex.pV rfl rfl rfl rfl (hW1.1) rfl rfl (hu_seams hW1 ok1) (by omega) (by omega) (by omega) ?_
        (try refine pb_Ex.run rfl ?_)
        rw [hse1]
        refine pb_Ex.icmpT rfl (by omega) (by omega) (by first | decide | (simp only [pb_cmp]; omega) | simp [pb_cmp]) ?_
        (try refine pb_Ex.run rfl ?_)
        refine pb_Ex.rV rfl rfl rfl rfl (hW1.1) rfl rfl (hu_canFloat hG hW1 ok1) (by omega) (by omega) (by omega) (fun h2 hx2 => ?_)
        (try refine pb_Ex.run rfl ?_)
        have hW2 := hW1.x hx2
        by_cases c2 : ya_wt (cp_g f k hr) k ≤ ya_wd (cp_g f k hr) k * 40 / 2
        · rw [if_neg (fun q => q.2 c2), if_pos c2]
          have c2' : ya_wt (cp_s f k hr (ya_se f k)) k ≤ ya_wd (cp_s f k hr (ya_se f k)) k * 40 / 2 := c2
          rw [if_pos c2']
          refine pb_Ex.ifT rfl (by omega) (by first | decide | (simp only [pb_cmp]; omega) | simp [pb_cmp]) ?_
          (try refine pb_Ex.run rfl ?_)
          refine pb_Ex.gets rfl (hG.2.2.2.2.1 3 (by omega)).1 q839 ?_
          refine pb_Ex.pV rfl rfl rfl rfl (hW2.1) rfl rfl (hu_is hG hW2 ok1 3 (by omega)) (by omega) (by omega) (by omega) ?_
          (try refine pb_Ex.run rfl ?_)
          rw [if_neg (by omega)]
          refine pb_Ex.zret (ty := .boolean) rfl rfl (pb_nb (Or.inl rfl)).1 (by omega) (by omega) (⟨rfl, hW2, hx.tr hx2.P⟩)
        · rw [if_pos ⟨c, c2⟩, if_neg c2]
          have c2' : ¬ ya_wt (cp_s f k hr (ya_se f k)) k ≤ ya_wd (cp_s f k hr (ya_se f k)) k * 40 / 2 := c2
          rw [if_neg c2']
          refine pb_Ex.ifF rfl (by omega) (by first | decide | (simp only [pb_cmp]; omega) | simp [pb_cmp]) ?_
          (try refine pb_Ex.run rfl ?_)
          refine pb_Ex.gets rfl (hG.2.2.2.2.1 3 (by omega)).1 q839 ?_
          refine pb_Ex.putf rfl rfl (hW2.1) rfl rfl (by first | trivial | exact Or.inl rfl | exact Or.inr rfl | (show _ ∨ _; omega) | (show _ ∧ _; omega)) ?_
          (try refine pb_Ex.run rfl ?_)
          have hW3 : hu_W K (pb_set h2 (B 0) (pb_ob 5 ([pb_i k, pb_r (B 1), pb_r (B 2), pb_r (co_st K (cp_s f k hr (ya_se f k) (21 + 28 * k)).toNat), pb_i (cp_s f k hr (ya_se f k) (23 + 28 * k)), pb_i (cp_s f k hr (ya_se f k) (24 + 28 * k))].set 3 (pb_r (co_st K 3))))) B k (va_up (cp_g f k hr) (21 + 28 * k) 3) := by
            obtain ⟨l1, ⟨g, l2, l3⟩, ⟨cc, l4, l6⟩, l5⟩ := hW2
            obtain ⟨mc3, cap3, qq3, a1, a2, -⟩ := id l2
            have n1 : B 1 ≠ B 0 := fun z => by rw [z, l1] at a1; cases a1
            have n2 : B 2 ≠ B 0 := fun z => by rw [z, l1] at l4; cases l4
            have n3 : B 3 ≠ B 0 := fun z => by rw [z, l1] at a2; cases a2
            have hx9 : fr_P (fun b _ => b ≠ B 0) h2 (pb_set h2 (B 0) (pb_ob 5 ([pb_i k, pb_r (B 1), pb_r (B 2), pb_r (co_st K (cp_s f k hr (ya_se f k) (21 + 28 * k)).toNat), pb_i (cp_s f k hr (ya_se f k) (23 + 28 * k)), pb_i (cp_s f k hr (ya_se f k) (24 + 28 * k))].set 3 (pb_r (co_st K 3))))) := fr_P.st fr_P.rf _ (fun c _ q => q rfl)
            have hn9 : ya_n (va_up (cp_g f k hr) (21 + 28 * k) 3) k = ya_n (cp_s f k hr (ya_se f k)) k := ya_n_cg (va_upN _ _ (by omega))
            refine ⟨?_, ⟨g, ?_, fun i hi => ?_⟩, ⟨cc, (pb_set_ne n2).trans l4, fun i hi => ?_⟩, l5⟩
            · rw [pb_set_same, va_upS, va_upN _ _ (by omega), va_upN _ _ (by omega)]
              rfl
            · rw [hn9]
              exact l2.fr hx9 (fun _ _ => n1) (fun _ _ => n3) (fun i hi ci fs hg => fun z => by have := l3 i hi; rw [z, l1] at this; cases this)
            · rw [hn9] at hi
              rw [va_upN _ _ (by omega), va_upN _ _ (by omega), pb_set_ne (fun z => by have := l3 i hi; rw [z, l1] at this; cases this)]
              exact l3 i hi
            · rw [l6 i hi, va_upN _ _ (by omega), ya_se_cg (show va_up (cp_g f k hr) (21 + 28 * k) 3 (22 + 28 * k) = cp_s f k hr (ya_se f k) (22 + 28 * k) from va_upN _ _ (by omega))]
              rfl
          have hx3 : fr_P (fun b _ => b ≠ B 0 ∧ b ≠ B 2) h (pb_set h2 (B 0) (pb_ob 5 ([pb_i k, pb_r (B 1), pb_r (B 2), pb_r (co_st K (cp_s f k hr (ya_se f k) (21 + 28 * k)).toNat), pb_i (cp_s f k hr (ya_se f k) (23 + 28 * k)), pb_i (cp_s f k hr (ya_se f k) (24 + 28 * k))].set 3 (pb_r (co_st K 3))))) := fr_P.st (hx.tr hx2.P) _ (fun c _ q => q.1 rfl)
          generalize pb_set h2 (B 0) (pb_ob 5 ([pb_i k, pb_r (B 1), pb_r (B 2), pb_r (co_st K (cp_s f k hr (ya_se f k) (21 + 28 * k)).toNat), pb_i (cp_s f k hr (ya_se f k) (23 + 28 * k)), pb_i (cp_s f k hr (ya_se f k) (24 + 28 * k))].set 3 (pb_r (co_st K 3)))) = h3 at hW3 hx3 ⊢
          refine pb_Ex.gets rfl (hG.2.2.2.2.1 3 (by omega)).1 q839 ?_
          have ok3 : hu_ok (va_up (cp_g f k hr) (21 + 28 * k) 3) k := by
            have ok1' : hu_ok (cp_g f k hr) k := ok1
            obtain ⟨⟨b1, b2, b3, b4⟩, b5⟩ := ok1'
            refine ⟨⟨?_, fun i hi => ?_, fun i hi => ?_, fun h0 i hi => ?_⟩, by rw [va_upN _ _ (by omega)]; exact b5⟩
            · rw [va_upS, va_upN _ _ (by omega), va_upN _ _ (by omega), va_upN _ _ (by omega), va_upN _ _ (by omega)]
              omega
            · rw [va_upN _ _ (by omega)]; exact b2 i hi
            · rw [va_upN _ _ (by omega)]; exact b3 i hi
            · rw [va_upN _ _ (by omega)] at h0
              have := b4 h0 0 (by omega)
              have h7 : cp_g f k hr (21 + 28 * k) = 1 := hst1
              rw [show 21 + 28 * k + 0 = 21 + 28 * k by omega] at this
              omega
          refine pb_Ex.pV rfl rfl rfl rfl (hW3.1) rfl rfl (hu_is hG hW3 ok3 3 (by omega)) (by omega) (by omega) (by omega) ?_
          (try refine pb_Ex.run rfl ?_)
          rw [if_pos (by rw [va_upS]; rfl)]
          refine pb_Ex.zret (ty := .boolean) rfl rfl (pb_nb (Or.inr rfl)).1 (by omega) (by omega) (⟨rfl, hW3, hx3⟩)
      | succ d ih =>
        intro j z h1 hj hz hW1 hx
        subst hz
        have ok1 := cp_s_ok (s := j) hr ok hw hk (by omega)
        have hse1 : ya_se (cp_s f k hr j) k = ya_se f k := ya_se_cg (cp_s_out f k hr _ _ (by omega) (by omega))
        have hrg := (cp_s_rg f k hr ok.1 j (by omega)).1 j (by omega)
        have hwt := ok1.1.1
        have h13 := ok1.2
        refine pb_Ex.run rfl ?_
        refine pb_Ex.pV rfl rfl rfl rfl (hW1.1) rfl rfl (hu_seams hW1 ok1) (by omega) (by omega) (by omega) ?_
        (try refine pb_Ex.run rfl ?_)
        rw [hse1]
        refine pb_Ex.icmpF rfl (by omega) (by omega) (by first | decide | (simp only [pb_cmp]; omega) | simp [pb_cmp]) ?_
        (try refine pb_Ex.run rfl ?_)
        obtain ⟨l1, ⟨g, l2, l3⟩, ⟨cc, l4, l6⟩, l5⟩ := hW1
        obtain ⟨mc3, cap3, qq3, a1, a2, -⟩ := id l2
        have n1 : B 1 ≠ B 0 := fun z => by rw [z, l1] at a1; cases a1
        have n2 : B 2 ≠ B 0 := fun z => by rw [z, l1] at l4; cases l4
        have n3 : B 3 ≠ B 0 := fun z => by rw [z, l1] at a2; cases a2
        have n4 : B 1 ≠ B 2 := fun z => by rw [z, l4] at a1; cases a1
        have n5 : B 3 ≠ B 2 := fun z => by rw [z, l4] at a2; cases a2
        have hcj : cc j = cp_s f k hr j (41 + 28 * k + j) := by rw [l6 j (by omega), if_pos (by omega)]
        refine pb_Ex.getf rfl rfl l1 rfl ?_
        (try refine pb_Ex.run rfl ?_)
        refine pb_Ex.getf rfl rfl l1 rfl ?_
        (try refine pb_Ex.run rfl ?_)
        refine pb_Ex.iat (j) rfl (l4) (by omega) (by omega) ?_
        (try refine pb_Ex.run rfl ?_)
        rw [hcj]
        refine pb_Ex.putf rfl rfl (l1) rfl rfl (by first | trivial | exact Or.inl rfl | exact Or.inr rfl | (show _ ∨ _; omega) | (show _ ∧ _; omega)) ?_
        (try refine pb_Ex.run rfl ?_)
        have hx4 : fr_P (fun b _ => b ≠ B 0 ∧ b ≠ B 2) h (pb_set h1 (B 0) (pb_ob 5 ([pb_i k, pb_r (B 1), pb_r (B 2), pb_r (co_st K (cp_s f k hr j (21 + 28 * k)).toNat), pb_i (cp_s f k hr j (23 + 28 * k)), pb_i (cp_s f k hr j (24 + 28 * k))].set 5 (pb_i (cp_s f k hr j (24 + 28 * k) + (9 - cp_s f k hr j (41 + 28 * k + j))))))) := fr_P.st hx _ (fun c _ q => q.1 rfl)
        have m1 : (pb_set h1 (B 0) (pb_ob 5 ([pb_i k, pb_r (B 1), pb_r (B 2), pb_r (co_st K (cp_s f k hr j (21 + 28 * k)).toNat), pb_i (cp_s f k hr j (23 + 28 * k)), pb_i (cp_s f k hr j (24 + 28 * k))].set 5 (pb_i (cp_s f k hr j (24 + 28 * k) + (9 - cp_s f k hr j (41 + 28 * k + j))))))).2 (B 0) = some (pb_ob 5 [pb_i k, pb_r (B 1), pb_r (B 2), pb_r (co_st K (cp_s f k hr j (21 + 28 * k)).toNat), pb_i (cp_s f k hr j (23 + 28 * k)), pb_i (cp_s f k hr j (24 + 28 * k) + (9 - cp_s f k hr j (41 + 28 * k + j)))]) := pb_set_same
        have mo : ∀ b, b ≠ B 0 → (pb_set h1 (B 0) (pb_ob 5 ([pb_i k, pb_r (B 1), pb_r (B 2), pb_r (co_st K (cp_s f k hr j (21 + 28 * k)).toNat), pb_i (cp_s f k hr j (23 + 28 * k)), pb_i (cp_s f k hr j (24 + 28 * k))].set 5 (pb_i (cp_s f k hr j (24 + 28 * k) + (9 - cp_s f k hr j (41 + 28 * k + j))))))).2 b = h1.2 b := fun b hb => pb_set_ne hb
        have ms : (pb_set h1 (B 0) (pb_ob 5 ([pb_i k, pb_r (B 1), pb_r (B 2), pb_r (co_st K (cp_s f k hr j (21 + 28 * k)).toNat), pb_i (cp_s f k hr j (23 + 28 * k)), pb_i (cp_s f k hr j (24 + 28 * k))].set 5 (pb_i (cp_s f k hr j (24 + 28 * k) + (9 - cp_s f k hr j (41 + 28 * k + j))))))).1 = h1.1 := rfl
        generalize pb_set h1 (B 0) (pb_ob 5 ([pb_i k, pb_r (B 1), pb_r (B 2), pb_r (co_st K (cp_s f k hr j (21 + 28 * k)).toNat), pb_i (cp_s f k hr j (23 + 28 * k)), pb_i (cp_s f k hr j (24 + 28 * k))].set 5 (pb_i (cp_s f k hr j (24 + 28 * k) + (9 - cp_s f k hr j (41 + 28 * k + j)))))) = h2 at hx4 m1 mo ms ⊢
        have l4' : h2.2 (B 2) = some (pb_aI 0 8 cc) := (mo _ n2).trans l4
        refine pb_Ex.getf rfl rfl m1 rfl ?_
        (try refine pb_Ex.run rfl ?_)
        refine pb_Ex.iat (j) rfl (l4') (by omega) (by omega) ?_
        (try refine pb_Ex.run rfl ?_)
        refine pb_Ex.irem rfl (by omega) (by omega) ?_
        have tail : ∀ v : Int, v = (if hr % 6 = 0 ∧ 0 < cp_s f k hr j (41 + 28 * k + j) then 1 else 0) → pb_Ex G mX6_sinksIn 6 1 2 (fun oc h' => oc = .inl (some (pb_i (if f (21 + 28 * k) = 1 ∧ ¬ ya_wt (cp_g f k hr) k ≤ ya_wd (cp_g f k hr) k * 40 / 2 then 1 else 0))) ∧ hu_W K h' B k (if ya_wt (cp_g f k hr) k ≤ ya_wd (cp_g f k hr) k * 40 / 2 then cp_g f k hr else va_up (cp_g f k hr) (21 + 28 * k) 3) ∧ fr_P (fun b _ => b ≠ B 0 ∧ b ≠ B 2) h h') 0 0 69 [some (pb_r (B 0)), some (pb_i hr), some (pb_i j)] [pb_i (cc j - v), pb_i j, pb_r (B 2)] h2 := by
          intro v hv
          refine pb_Ex.istat (j) rfl (l4') (by omega) (by omega) ?_
          (try refine pb_Ex.run rfl ?_)
          refine ih (j + 1) _ _ (by omega) (by omega) ?_ (fr_P.st hx4 _ (fun c _ q => q.2 rfl))
          have out : ∀ i, i ≠ 24 + 28 * k → i ≠ 41 + 28 * k + j → cp_s f k hr (j + 1) i = cp_s f k hr j i := fun i a1 a2 => by
            show va_up (va_up _ _ _) _ _ i = _
            rw [va_upN _ _ a2, va_upN _ _ a1]
          have o24 : cp_s f k hr (j + 1) (24 + 28 * k) = cp_s f k hr j (24 + 28 * k) + (9 - cp_s f k hr j (41 + 28 * k + j)) := by
            show va_up (va_up _ _ _) _ _ _ = _
            rw [va_upN _ _ (by omega), va_upS]
          have o41 : cp_s f k hr (j + 1) (41 + 28 * k + j) = cc j - v := by
            show va_up (va_up _ _ _) _ _ _ = _
            rw [va_upS, hv, hcj]
          have hn9 : ya_n (cp_s f k hr (j + 1)) k = ya_n (cp_s f k hr j) k := ya_n_cg (out _ (by omega) (by omega))
          have g6 : ∀ i, i < ya_n (cp_s f k hr j) k → g i ≠ B 0 ∧ g i ≠ B 2 := fun i hi => by
            have := l3 i hi
            exact ⟨(fun z => by rw [z, l1] at this; cases this), (fun z => by rw [z, l4] at this; cases this)⟩
          have hx9 : fr_P (fun b _ => b ≠ B 0 ∧ b ≠ B 2) h1 (pb_set h2 (B 2) (pb_aI 0 8 (va_up cc j (cc j - v)))) := ⟨Nat.le_of_eq ms.symm, fun b c hb hP => by rw [pb_set_ne hP.2, mo _ hP.1]; exact hb⟩
          refine ⟨?_, ⟨g, ?_, fun i hi => ?_⟩, ⟨va_up cc j (cc j - v), pb_set_same, fun i hi => ?_⟩, l5⟩
          · rw [pb_set_ne (Ne.symm n2), m1, out _ (by omega) (by omega), out _ (by omega) (by omega), o24]
          · rw [hn9]
            exact l2.fr hx9 (fun _ _ => ⟨n1, n4⟩) (fun _ _ => ⟨n3, n5⟩) (fun i hi ci fs hg => g6 i hi)
          · rw [hn9] at hi
            obtain ⟨b1, b2⟩ := g6 i hi
            have hi8 : i < 8 := by rw [ya_n_cg (cp_s_out f k hr j _ (by omega) (by omega))] at hi; omega
            rw [out _ (by omega) (by omega), out _ (by omega) (by omega), pb_set_ne b2, mo _ b1]
            exact l3 i hi
          · rw [ya_se_cg (out _ (by omega) (by omega))]
            by_cases cj : i = j
            · subst cj
              rw [va_upS, hse1, if_pos (by omega), o41]
            · rw [va_upN _ _ cj, l6 i hi, out _ (by omega) (by omega)]
        refine pb_Ex.if_ne rfl (by omega) (fun c3 => ?_) (fun c3 => ?_)
        · refine pb_Ex.run rfl ?_
          exact tail 0 (by rw [if_neg (by omega)])
        · refine pb_Ex.run rfl ?_
          refine pb_Ex.getf rfl rfl m1 rfl ?_
          (try refine pb_Ex.run rfl ?_)
          refine pb_Ex.iat (j) rfl (l4') (by omega) (by omega) ?_
          (try refine pb_Ex.run rfl ?_)
          refine pb_Ex.if_le rfl (by omega) (fun c4 => ?_) (fun c4 => ?_)
          · refine pb_Ex.run rfl ?_
            exact tail 0 (by rw [if_neg (by omega)])
          · refine pb_Ex.run rfl ?_
            exact tail 1 (by rw [if_pos (by omega)])
    exact loop (ya_se f k) 0 0 h (by omega) rfl hW fr_P.rf
  · rw [if_neg c, if_neg (show ¬ (f (21 + 28 * k) = 1 ∧ ¬ ya_wt (cp_g f k hr) k ≤ ya_wd (cp_g f k hr) k * 40 / 2) from fun q => c q.1)]
    refine pb_Ctr.of rfl rfl rfl tX6_sinksIn_ok rfl ?_
    (try refine pb_Ex.run rfl ?_)
    refine pb_Ex.gets rfl (hG.2.2.2.2.1 1 (by omega)).1 q833 ?_
    refine pb_Ex.pV rfl rfl rfl rfl (hW.1) rfl rfl (hu_is hG hW ok 1 (by omega)) (by omega) (by omega) (by omega) ?_
    (try refine pb_Ex.run rfl ?_)
    rw [if_neg (show ¬ f (21 + 28 * k) = ((1 : Nat) : Int) from c)]
    refine pb_Ex.ifF rfl (by omega) (by first | decide | (simp only [pb_cmp]; omega) | simp [pb_cmp]) ?_
    (try refine pb_Ex.run rfl ?_)
    refine pb_Ex.zret (ty := .boolean) rfl rfl (pb_nb (Or.inl rfl)).1 (by omega) (by omega) (⟨rfl, hW, fr_P.rf⟩)
end HULL3
