set_option maxRecDepth 100000
/-! OUT OF THE START's PREMISES -/
def cn_at : Cond → List Bool → Option Cond
  | c, [] => some c
  | .and a _, false :: r => cn_at a r
  | .and _ b, true :: r => cn_at b r
  | _, _ :: _ => none
theorem cn_ok {A : Array Value} {s : State} : ∀ (p : List Bool) (c w : Cond), cn_at c p = some w → c.before A s = true → w.before A s = true
  | [], c, w, h, hc => by
    cases c <;> (cases h; exact hc)
  | b :: r, c, w, h, hc => by
    cases c with
    | and x y =>
      rw [Cond.before_and, Bool.and_eq_true] at hc
      cases b with
      | false => exact cn_ok r x w h hc.1
      | true => exact cn_ok r y w h hc.2
    | _ => cases b <;> cases h
abbrev cn_all : Cond := Jvm.Cond.and given_1 narrow_1
theorem pb_nar {G : pb_G} (hSF : pb_SF G) (p : List Bool) {w : Cond} (h : cn_at cn_all p = some w) : ∃ b : Nat, w.before #[Value.ref b] G.2.1 = true := by
  obtain ⟨-, -, -, b, -, h2⟩ := hSF
  exact ⟨b, cn_ok p _ _ h h2⟩
theorem pb_narC {G : pb_G} (hSF : pb_SF G) (p : List Bool) {x y : String} (h : cn_at cn_all p = some (Cond.not (.castable x y))) : pb_nc G x y := by
  obtain ⟨b, h1⟩ := pb_nar hSF p h
  exact va_Nc.of h1
theorem nc_IOB_ISE {G : pb_G} (hSF : pb_SF G) : pb_nc G "java/lang/IndexOutOfBoundsException" "java/lang/IllegalStateException" := pb_narC hSF [true, false, true, false, true, false, false, false, false, false] rfl
theorem nc_IAE_ISE {G : pb_G} (hSF : pb_SF G) : pb_nc G "java/lang/IllegalArgumentException" "java/lang/IllegalStateException" := pb_narC hSF [true, false, true, false, true, false, false, false, false, true, false] rfl
theorem nc_LR_ISE {G : pb_G} (hSF : pb_SF G) : pb_nc G "PuddleBoatyard$LaunchRefused" "java/lang/IllegalStateException" := pb_narC hSF [true, false, true, false, true, false, false, false, true, false] rfl
theorem nc_NSE_ISE {G : pb_G} (hSF : pb_SF G) : pb_nc G "java/util/NoSuchElementException" "java/lang/IllegalStateException" := pb_narC hSF [true, false, true, false, true, false, false, true, false, true, false] rfl
theorem nc_UOE_ISE {G : pb_G} (hSF : pb_SF G) : pb_nc G "java/lang/UnsupportedOperationException" "java/lang/IllegalStateException" := pb_narC hSF [true, false, true, false, true, false, false, true, true, false] rfl
theorem nc_ARE_ISE {G : pb_G} (hSF : pb_SF G) : pb_nc G "java/lang/ArithmeticException" "java/lang/IllegalStateException" := pb_narC hSF [true, false, true, false, true, false, true, false, false, false] rfl
theorem nc_SY_ISE {G : pb_G} (hSF : pb_SF G) : pb_nc G "PuddleBoatyard$SyntaxError" "java/lang/IllegalStateException" := pb_narC hSF [true, false, true, false, true, false, true, false, true, true, false] rfl
theorem nc_ISE_LR {G : pb_G} (hSF : pb_SF G) : pb_nc G "java/lang/IllegalStateException" "PuddleBoatyard$LaunchRefused" := pb_narC hSF [true, false, true, false, true, true, false, false, false, true, true] rfl
theorem nc_IOB_LR {G : pb_G} (hSF : pb_SF G) : pb_nc G "java/lang/IndexOutOfBoundsException" "PuddleBoatyard$LaunchRefused" := pb_narC hSF [true, false, true, false, true, true, false, false, true, false] rfl
theorem nc_IAE_LR {G : pb_G} (hSF : pb_SF G) : pb_nc G "java/lang/IllegalArgumentException" "PuddleBoatyard$LaunchRefused" := pb_narC hSF [true, false, true, false, true, true, false, false, true, true, false] rfl
theorem nc_NSE_LR {G : pb_G} (hSF : pb_SF G) : pb_nc G "java/util/NoSuchElementException" "PuddleBoatyard$LaunchRefused" := pb_narC hSF [true, false, true, false, true, true, false, true, true, false] rfl
theorem nc_UOE_LR {G : pb_G} (hSF : pb_SF G) : pb_nc G "java/lang/UnsupportedOperationException" "PuddleBoatyard$LaunchRefused" := pb_narC hSF [true, false, true, false, true, true, false, true, true, true, true] rfl
theorem nc_ARE_LR {G : pb_G} (hSF : pb_SF G) : pb_nc G "java/lang/ArithmeticException" "PuddleBoatyard$LaunchRefused" := pb_narC hSF [true, false, true, false, true, true, true, false, false, true, true] rfl
theorem nc_SY_LR {G : pb_G} (hSF : pb_SF G) : pb_nc G "PuddleBoatyard$SyntaxError" "PuddleBoatyard$LaunchRefused" := pb_narC hSF [true, false, true, false, true, true, true, true, false, false] rfl
theorem nc_ISE_IOB {G : pb_G} (hSF : pb_SF G) : pb_nc G "java/lang/IllegalStateException" "java/lang/IndexOutOfBoundsException" := pb_narC hSF [true, false, true, true, false, true, false, true, false, true, false] rfl
theorem nc_IAE_IOB {G : pb_G} (hSF : pb_SF G) : pb_nc G "java/lang/IllegalArgumentException" "java/lang/IndexOutOfBoundsException" := pb_narC hSF [true, false, true, true, false, true, false, true, false, true, true] rfl
theorem nc_LR_IOB {G : pb_G} (hSF : pb_SF G) : pb_nc G "PuddleBoatyard$LaunchRefused" "java/lang/IndexOutOfBoundsException" := pb_narC hSF [true, false, true, true, false, true, false, true, true, true, false] rfl
theorem nc_NSE_IOB {G : pb_G} (hSF : pb_SF G) : pb_nc G "java/util/NoSuchElementException" "java/lang/IndexOutOfBoundsException" := pb_narC hSF [true, false, true, true, false, true, true, false, false, true, true] rfl
theorem nc_UOE_IOB {G : pb_G} (hSF : pb_SF G) : pb_nc G "java/lang/UnsupportedOperationException" "java/lang/IndexOutOfBoundsException" := pb_narC hSF [true, false, true, true, false, true, true, false, true, true, false] rfl
theorem nc_ARE_IOB {G : pb_G} (hSF : pb_SF G) : pb_nc G "java/lang/ArithmeticException" "java/lang/IndexOutOfBoundsException" := pb_narC hSF [true, false, true, true, false, true, true, true, false, false] rfl
theorem nc_SY_IOB {G : pb_G} (hSF : pb_SF G) : pb_nc G "PuddleBoatyard$SyntaxError" "java/lang/IndexOutOfBoundsException" := pb_narC hSF [true, false, true, true, false, true, true, true, true, false, false] rfl
theorem nc_ISE_IAE {G : pb_G} (hSF : pb_SF G) : pb_nc G "java/lang/IllegalStateException" "java/lang/IllegalArgumentException" := pb_narC hSF [true, false, true, true, true, false, false, true, false, true, false] rfl
theorem nc_IOB_IAE {G : pb_G} (hSF : pb_SF G) : pb_nc G "java/lang/IndexOutOfBoundsException" "java/lang/IllegalArgumentException" := pb_narC hSF [true, false, true, true, true, false, false, true, false, true, true] rfl
theorem nc_LR_IAE {G : pb_G} (hSF : pb_SF G) : pb_nc G "PuddleBoatyard$LaunchRefused" "java/lang/IllegalArgumentException" := pb_narC hSF [true, false, true, true, true, false, false, true, true, true, false] rfl
theorem nc_NSE_IAE {G : pb_G} (hSF : pb_SF G) : pb_nc G "java/util/NoSuchElementException" "java/lang/IllegalArgumentException" := pb_narC hSF [true, false, true, true, true, false, true, false, false, true, true] rfl
theorem nc_UOE_IAE {G : pb_G} (hSF : pb_SF G) : pb_nc G "java/lang/UnsupportedOperationException" "java/lang/IllegalArgumentException" := pb_narC hSF [true, false, true, true, true, false, true, false, true, true, false] rfl
theorem nc_ARE_IAE {G : pb_G} (hSF : pb_SF G) : pb_nc G "java/lang/ArithmeticException" "java/lang/IllegalArgumentException" := pb_narC hSF [true, false, true, true, true, false, true, true, false, true, false] rfl
theorem nc_SY_IAE {G : pb_G} (hSF : pb_SF G) : pb_nc G "PuddleBoatyard$SyntaxError" "java/lang/IllegalArgumentException" := pb_narC hSF [true, false, true, true, true, false, true, true, true, true, false] rfl
theorem nc_ISE_UOE {G : pb_G} (hSF : pb_SF G) : pb_nc G "java/lang/IllegalStateException" "java/lang/UnsupportedOperationException" := pb_narC hSF [true, false, true, true, true, true, false, true, true, false] rfl
theorem nc_IOB_UOE {G : pb_G} (hSF : pb_SF G) : pb_nc G "java/lang/IndexOutOfBoundsException" "java/lang/UnsupportedOperationException" := pb_narC hSF [true, false, true, true, true, true, false, true, true, true, false] rfl
theorem nc_IAE_UOE {G : pb_G} (hSF : pb_SF G) : pb_nc G "java/lang/IllegalArgumentException" "java/lang/UnsupportedOperationException" := pb_narC hSF [true, false, true, true, true, true, false, true, true, true, true] rfl
theorem nc_LR_UOE {G : pb_G} (hSF : pb_SF G) : pb_nc G "PuddleBoatyard$LaunchRefused" "java/lang/UnsupportedOperationException" := pb_narC hSF [true, false, true, true, true, true, true, false, false, true, false] rfl
theorem nc_NSE_UOE {G : pb_G} (hSF : pb_SF G) : pb_nc G "java/util/NoSuchElementException" "java/lang/UnsupportedOperationException" := pb_narC hSF [true, false, true, true, true, true, true, false, true, true, true] rfl
theorem nc_ARE_UOE {G : pb_G} (hSF : pb_SF G) : pb_nc G "java/lang/ArithmeticException" "java/lang/UnsupportedOperationException" := pb_narC hSF [true, false, true, true, true, true, true, true, true, false, false] rfl
theorem nc_SY_UOE {G : pb_G} (hSF : pb_SF G) : pb_nc G "PuddleBoatyard$SyntaxError" "java/lang/UnsupportedOperationException" := pb_narC hSF [true, true, false, false, false, false, false, false, false, false] rfl
theorem nc_ISE_NSE {G : pb_G} (hSF : pb_SF G) : pb_nc G "java/lang/IllegalStateException" "java/util/NoSuchElementException" := pb_narC hSF [true, true, false, false, false, false, false, true, true, true, true] rfl
theorem nc_IOB_NSE {G : pb_G} (hSF : pb_SF G) : pb_nc G "java/lang/IndexOutOfBoundsException" "java/util/NoSuchElementException" := pb_narC hSF [true, true, false, false, false, false, true, false, false, false] rfl
theorem nc_IAE_NSE {G : pb_G} (hSF : pb_SF G) : pb_nc G "java/lang/IllegalArgumentException" "java/util/NoSuchElementException" := pb_narC hSF [true, true, false, false, false, false, true, false, false, true, false] rfl
theorem nc_LR_NSE {G : pb_G} (hSF : pb_SF G) : pb_nc G "PuddleBoatyard$LaunchRefused" "java/util/NoSuchElementException" := pb_narC hSF [true, true, false, false, false, false, true, false, true, false] rfl
theorem nc_UOE_NSE {G : pb_G} (hSF : pb_SF G) : pb_nc G "java/lang/UnsupportedOperationException" "java/util/NoSuchElementException" := pb_narC hSF [true, true, false, false, false, false, true, true, false, true, true] rfl
theorem nc_ARE_NSE {G : pb_G} (hSF : pb_SF G) : pb_nc G "java/lang/ArithmeticException" "java/util/NoSuchElementException" := pb_narC hSF [true, true, false, false, false, false, true, true, true, true, true] rfl
theorem nc_SY_NSE {G : pb_G} (hSF : pb_SF G) : pb_nc G "PuddleBoatyard$SyntaxError" "java/util/NoSuchElementException" := pb_narC hSF [true, true, false, false, false, true, false, false, true, false] rfl
theorem nc_ISE_ARE {G : pb_G} (hSF : pb_SF G) : pb_nc G "java/lang/IllegalStateException" "java/lang/ArithmeticException" := pb_narC hSF [true, true, false, false, false, true, true, false, false, true, true] rfl
theorem nc_IOB_ARE {G : pb_G} (hSF : pb_SF G) : pb_nc G "java/lang/IndexOutOfBoundsException" "java/lang/ArithmeticException" := pb_narC hSF [true, true, false, false, false, true, true, false, true, false] rfl
theorem nc_IAE_ARE {G : pb_G} (hSF : pb_SF G) : pb_nc G "java/lang/IllegalArgumentException" "java/lang/ArithmeticException" := pb_narC hSF [true, true, false, false, false, true, true, false, true, true, false] rfl
theorem nc_LR_ARE {G : pb_G} (hSF : pb_SF G) : pb_nc G "PuddleBoatyard$LaunchRefused" "java/lang/ArithmeticException" := pb_narC hSF [true, true, false, false, false, true, true, true, false, false] rfl
theorem nc_NSE_ARE {G : pb_G} (hSF : pb_SF G) : pb_nc G "java/util/NoSuchElementException" "java/lang/ArithmeticException" := pb_narC hSF [true, true, false, false, false, true, true, true, true, true, false] rfl
theorem nc_UOE_ARE {G : pb_G} (hSF : pb_SF G) : pb_nc G "java/lang/UnsupportedOperationException" "java/lang/ArithmeticException" := pb_narC hSF [true, true, false, false, true, false, false, false, false, false] rfl
theorem nc_SY_ARE {G : pb_G} (hSF : pb_SF G) : pb_nc G "PuddleBoatyard$SyntaxError" "java/lang/ArithmeticException" := pb_narC hSF [true, true, false, false, true, false, false, true, false, false] rfl
theorem nc_ISE_SY {G : pb_G} (hSF : pb_SF G) : pb_nc G "java/lang/IllegalStateException" "PuddleBoatyard$SyntaxError" := pb_narC hSF [true, true, false, false, true, false, true, false, true, true, true] rfl
theorem nc_IOB_SY {G : pb_G} (hSF : pb_SF G) : pb_nc G "java/lang/IndexOutOfBoundsException" "PuddleBoatyard$SyntaxError" := pb_narC hSF [true, true, false, false, true, false, true, true, false, false] rfl
theorem nc_IAE_SY {G : pb_G} (hSF : pb_SF G) : pb_nc G "java/lang/IllegalArgumentException" "PuddleBoatyard$SyntaxError" := pb_narC hSF [true, true, false, false, true, false, true, true, false, true, false] rfl
theorem nc_LR_SY {G : pb_G} (hSF : pb_SF G) : pb_nc G "PuddleBoatyard$LaunchRefused" "PuddleBoatyard$SyntaxError" := pb_narC hSF [true, true, false, false, true, false, true, true, true, false] rfl
theorem nc_NSE_SY {G : pb_G} (hSF : pb_SF G) : pb_nc G "java/util/NoSuchElementException" "PuddleBoatyard$SyntaxError" := pb_narC hSF [true, true, false, false, true, true, false, false, false, true, false] rfl
theorem nc_UOE_SY {G : pb_G} (hSF : pb_SF G) : pb_nc G "java/lang/UnsupportedOperationException" "PuddleBoatyard$SyntaxError" := pb_narC hSF [true, true, false, false, true, true, false, false, true, false] rfl
theorem nc_ARE_SY {G : pb_G} (hSF : pb_SF G) : pb_nc G "java/lang/ArithmeticException" "PuddleBoatyard$SyntaxError" := pb_narC hSF [true, true, false, false, true, true, false, true, false, false] rfl
