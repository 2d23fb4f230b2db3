set_option maxRecDepth 100000
/-- decoded code: the place, the instruction, the next place, where it jumps to (1 at a loop's head) -/
abbrev pb_T : Type := List (Nat × Instr × Nat × Nat)
/-- how long the instructions are that the rows know; 0: not known -/
def pb_ln (i : Instr) : Nat := match i with
  | .tableswitch _ _ _ _ => 0
  | .lookupswitch _ _ => 0
  | .iload _ | .lload _ | .dload _ | .aload _ | .istore _ | .lstore _ | .dstore _ | .astore _ | .bipush _ | .ldc _ | .newarray _ => 2
  | .sipush _ | .ldc2_w _ | .ldc_w _ | .iinc _ _ | .goto _ | .ifCond _ _ | .if_icmp _ _ | .if_acmp _ _ | .ifnull _ | .ifnonnull _ | .getfield _ | .putfield _ | .getstatic _ | .invokevirtual _ | .invokestatic _ | .invokespecial _ | .new _ | .anewarray _ | .checkcast _ | .instanceof _ => 3
  | .invokeinterface _ _ => 5
  | _ => 1
def pb_jp (pc : Nat) (i : Instr) (t : Nat) : Bool := match i with
  | .goto o => decide ((pc : Int) + o = t)
  | .ifCond _ o => decide ((pc : Int) + o = t)
  | .if_icmp _ o => decide ((pc : Int) + o = t)
  | .if_acmp _ o => decide ((pc : Int) + o = t)
  | .ifnull o => decide ((pc : Int) + o = t)
  | .ifnonnull o => decide ((pc : Int) + o = t)
  | _ => true
def pb_Tok (c : ByteArray) (T : pb_T) : Prop := ∀ x ∈ T, pb_ln x.2.1 = 0 ∨ (decode c x.1 = .ok (x.2.1, pb_ln x.2.1) ∧ x.2.2.1 = x.1 + pb_ln x.2.1 ∧ pb_jp x.1 x.2.1 x.2.2.2 = true)
theorem pb_Tok.nil {c : ByteArray} : pb_Tok c [] := fun _ h => absurd h List.not_mem_nil
theorem pb_Tok.cons {c : ByteArray} {p : Nat} {i : Instr} {n t len : Nat} {T : pb_T} (hd : decode c p = .ok (i, len)) (hn : (Nat.beq (pb_ln i) 0 || (Nat.beq len (pb_ln i) && (Nat.beq n (p + len) && pb_jp p i t))) = true) (h : pb_Tok c T) : pb_Tok c ((p, i, n, t) :: T) := by
  refine List.forall_mem_cons.mpr ⟨?_, h⟩
  simp only [Bool.or_eq_true, Bool.and_eq_true] at hn
  rcases hn with hn | ⟨h1, h2, h3⟩
  · exact Or.inl (Nat.eq_of_beq_eq_true hn)
  · have h1 := Nat.eq_of_beq_eq_true h1
    have h2 := Nat.eq_of_beq_eq_true h2
    subst h1
    exact Or.inr ⟨hd, h2, h3⟩
theorem pb_Tok.app {c : ByteArray} {T U : pb_T} (h1 : pb_Tok c T) (h2 : pb_Tok c U) : pb_Tok c (T ++ U) := List.forall_mem_append.mpr ⟨h1, h2⟩

def dkwX4_init_25 : List UInt8 := [162, 0, 23, 42, 180, 0, 9, 16, 17, 27, 96, 5, 27, 104, 5, 96, 79, 132, 1, 1, 167, 255, 234, 177]
abbrev dktX4_init_25 : List UInt8 := dkwX4_init_25 ++ []
def dkwX4_init_24 : List UInt8 := [7, 27, 104, 167, 0, 9, 7, 16, 12, 27, 100, 104, 79, 132, 1, 1, 167, 255, 221, 3, 60, 27, 7]
abbrev dktX4_init_24 : List UInt8 := dkwX4_init_24 ++ dktX4_init_25
def dkwX4_init_23 : List UInt8 := [181, 0, 45, 3, 60, 27, 16, 12, 162, 0, 35, 42, 180, 0, 9, 8, 27, 96, 27, 16, 6, 163, 0, 9]
abbrev dktX4_init_23 : List UInt8 := dkwX4_init_23 ++ dktX4_init_24
def dkwX4_init_22 : List UInt8 := [16, 52, 79, 89, 16, 10, 16, 58, 79, 89, 16, 11, 16, 66, 79, 181, 0, 42, 42, 17, 0, 244, 188, 10]
abbrev dktX4_init_22 : List UInt8 := dkwX4_init_22 ++ dktX4_init_23
def dkwX4_init_21 : List UInt8 := [16, 30, 79, 89, 16, 6, 16, 36, 79, 89, 16, 7, 16, 41, 79, 89, 16, 8, 16, 47, 79, 89, 16, 9]
abbrev dktX4_init_21 : List UInt8 := dkwX4_init_21 ++ dktX4_init_22
def dkwX4_init_20 : List UInt8 := [3, 3, 79, 89, 4, 7, 79, 89, 5, 16, 10, 79, 89, 6, 16, 17, 79, 89, 7, 16, 23, 79, 89, 8]
abbrev dktX4_init_20 : List UInt8 := dkwX4_init_20 ++ dktX4_init_21
def dkwX4_init_19 : List UInt8 := [16, 101, 85, 89, 16, 64, 16, 114, 85, 89, 16, 65, 16, 32, 85, 181, 0, 38, 42, 16, 12, 188, 10, 89]
abbrev dktX4_init_19 : List UInt8 := dkwX4_init_19 ++ dktX4_init_20
def dkwX4_init_18 : List UInt8 := [16, 101, 85, 89, 16, 60, 16, 108, 85, 89, 16, 61, 16, 105, 85, 89, 16, 62, 16, 118, 85, 89, 16, 63]
abbrev dktX4_init_18 : List UInt8 := dkwX4_init_18 ++ dktX4_init_19
def dkwX4_init_17 : List UInt8 := [16, 101, 85, 89, 16, 56, 16, 114, 85, 89, 16, 57, 16, 32, 85, 89, 16, 58, 16, 100, 85, 89, 16, 59]
abbrev dktX4_init_17 : List UInt8 := dkwX4_init_17 ++ dktX4_init_18
def dkwX4_init_16 : List UInt8 := [16, 32, 85, 89, 16, 52, 16, 111, 85, 89, 16, 53, 16, 114, 85, 89, 16, 54, 16, 100, 85, 89, 16, 55]
abbrev dktX4_init_16 : List UInt8 := dkwX4_init_16 ++ dktX4_init_17
def dkwX4_init_15 : List UInt8 := [16, 116, 85, 89, 16, 48, 16, 105, 85, 89, 16, 49, 16, 100, 85, 89, 16, 50, 16, 101, 85, 89, 16, 51]
abbrev dktX4_init_15 : List UInt8 := dkwX4_init_15 ++ dktX4_init_16
def dkwX4_init_14 : List UInt8 := [16, 117, 85, 89, 16, 44, 16, 114, 85, 89, 16, 45, 16, 115, 85, 89, 16, 46, 16, 32, 85, 89, 16, 47]
abbrev dktX4_init_14 : List UInt8 := dkwX4_init_14 ++ dktX4_init_15
def dkwX4_init_13 : List UInt8 := [16, 112, 85, 89, 16, 40, 16, 32, 85, 89, 16, 41, 16, 104, 85, 89, 16, 42, 16, 111, 85, 89, 16, 43]
abbrev dktX4_init_13 : List UInt8 := dkwX4_init_13 ++ dktX4_init_14
def dkwX4_init_12 : List UInt8 := [16, 32, 85, 89, 16, 36, 16, 112, 85, 89, 16, 37, 16, 117, 85, 89, 16, 38, 16, 109, 85, 89, 16, 39]
abbrev dktX4_init_12 : List UInt8 := dkwX4_init_12 ++ dktX4_init_13
def dkwX4_init_11 : List UInt8 := [16, 97, 85, 89, 16, 32, 16, 117, 85, 89, 16, 33, 16, 108, 85, 89, 16, 34, 16, 107, 85, 89, 16, 35]
abbrev dktX4_init_11 : List UInt8 := dkwX4_init_11 ++ dktX4_init_12
def dkwX4_init_10 : List UInt8 := [16, 99, 85, 89, 16, 28, 16, 104, 85, 89, 16, 29, 16, 32, 85, 89, 16, 30, 16, 99, 85, 89, 16, 31]
abbrev dktX4_init_10 : List UInt8 := dkwX4_init_10 ++ dktX4_init_11
def dkwX4_init_9 : List UInt8 := [16, 108, 85, 89, 16, 24, 16, 97, 85, 89, 16, 25, 16, 117, 85, 89, 16, 26, 16, 110, 85, 89, 16, 27]
abbrev dktX4_init_9 : List UInt8 := dkwX4_init_9 ++ dktX4_init_10
def dkwX4_init_8 : List UInt8 := [16, 114, 85, 89, 16, 20, 16, 103, 85, 89, 16, 21, 16, 111, 85, 89, 16, 22, 16, 32, 85, 89, 16, 23]
abbrev dktX4_init_8 : List UInt8 := dkwX4_init_8 ++ dktX4_init_9
def dkwX4_init_7 : List UInt8 := [16, 114, 85, 89, 16, 16, 16, 32, 85, 89, 16, 17, 16, 99, 85, 89, 16, 18, 16, 97, 85, 89, 16, 19]
abbrev dktX4_init_7 : List UInt8 := dkwX4_init_7 ++ dktX4_init_8
def dkwX4_init_6 : List UInt8 := [16, 105, 85, 89, 16, 12, 16, 114, 85, 89, 16, 13, 16, 114, 85, 89, 16, 14, 16, 111, 85, 89, 16, 15]
abbrev dktX4_init_6 : List UInt8 := dkwX4_init_6 ++ dktX4_init_7
def dkwX4_init_5 : List UInt8 := [16, 109, 85, 89, 16, 8, 16, 101, 85, 89, 16, 9, 16, 32, 85, 89, 16, 10, 16, 109, 85, 89, 16, 11]
abbrev dktX4_init_5 : List UInt8 := dkwX4_init_5 ++ dktX4_init_6
def dkwX4_init_4 : List UInt8 := [6, 16, 108, 85, 89, 7, 16, 102, 85, 89, 8, 16, 114, 85, 89, 16, 6, 16, 97, 85, 89, 16, 7]
abbrev dktX4_init_4 : List UInt8 := dkwX4_init_4 ++ dktX4_init_5
def dkwX4_init_3 : List UInt8 := [181, 0, 35, 42, 16, 66, 188, 5, 89, 3, 16, 104, 85, 89, 4, 16, 117, 85, 89, 5, 16, 108, 85, 89]
abbrev dktX4_init_3 : List UInt8 := dkwX4_init_3 ++ dktX4_init_4
def dkwX4_init_2 : List UInt8 := [181, 0, 26, 42, 16, 60, 188, 10, 181, 0, 29, 42, 16, 8, 188, 10, 181, 0, 32, 42, 16, 100, 188, 10]
abbrev dktX4_init_2 : List UInt8 := dkwX4_init_2 ++ dktX4_init_3
def dkwX4_init_1 : List UInt8 := [17, 0, 213, 188, 10, 181, 0, 16, 42, 17, 6, 168, 188, 10, 181, 0, 19, 42, 2, 181, 0, 22, 42, 2]
abbrev dktX4_init_1 : List UInt8 := dkwX4_init_1 ++ dktX4_init_2
def dkwX4_init_0 : List UInt8 := [42, 183, 0, 1, 42, 17, 0, 213, 188, 10, 181, 0, 9, 42, 17, 0, 213, 188, 10, 181, 0, 13, 42]
abbrev dktX4_init_0 : List UInt8 := dkwX4_init_0 ++ dktX4_init_1
theorem dksX4_init_0 : cX4_init.data.toList.drop 0 = dktX4_init_0 := by decide +kernel
theorem dksX4_init_1 : cX4_init.data.toList.drop 23 = dktX4_init_1 := dk_seg dksX4_init_0 23 rfl rfl
theorem dksX4_init_2 : cX4_init.data.toList.drop 47 = dktX4_init_2 := dk_seg dksX4_init_1 24 rfl rfl
theorem dksX4_init_3 : cX4_init.data.toList.drop 71 = dktX4_init_3 := dk_seg dksX4_init_2 24 rfl rfl
theorem dksX4_init_4 : cX4_init.data.toList.drop 95 = dktX4_init_4 := dk_seg dksX4_init_3 24 rfl rfl
theorem dksX4_init_5 : cX4_init.data.toList.drop 118 = dktX4_init_5 := dk_seg dksX4_init_4 23 rfl rfl
theorem dksX4_init_6 : cX4_init.data.toList.drop 142 = dktX4_init_6 := dk_seg dksX4_init_5 24 rfl rfl
theorem dksX4_init_7 : cX4_init.data.toList.drop 166 = dktX4_init_7 := dk_seg dksX4_init_6 24 rfl rfl
theorem dksX4_init_8 : cX4_init.data.toList.drop 190 = dktX4_init_8 := dk_seg dksX4_init_7 24 rfl rfl
theorem dksX4_init_9 : cX4_init.data.toList.drop 214 = dktX4_init_9 := dk_seg dksX4_init_8 24 rfl rfl
theorem dksX4_init_10 : cX4_init.data.toList.drop 238 = dktX4_init_10 := dk_seg dksX4_init_9 24 rfl rfl
theorem dksX4_init_11 : cX4_init.data.toList.drop 262 = dktX4_init_11 := dk_seg dksX4_init_10 24 rfl rfl
theorem dksX4_init_12 : cX4_init.data.toList.drop 286 = dktX4_init_12 := dk_seg dksX4_init_11 24 rfl rfl
theorem dksX4_init_13 : cX4_init.data.toList.drop 310 = dktX4_init_13 := dk_seg dksX4_init_12 24 rfl rfl
theorem dksX4_init_14 : cX4_init.data.toList.drop 334 = dktX4_init_14 := dk_seg dksX4_init_13 24 rfl rfl
theorem dksX4_init_15 : cX4_init.data.toList.drop 358 = dktX4_init_15 := dk_seg dksX4_init_14 24 rfl rfl
theorem dksX4_init_16 : cX4_init.data.toList.drop 382 = dktX4_init_16 := dk_seg dksX4_init_15 24 rfl rfl
theorem dksX4_init_17 : cX4_init.data.toList.drop 406 = dktX4_init_17 := dk_seg dksX4_init_16 24 rfl rfl
theorem dksX4_init_18 : cX4_init.data.toList.drop 430 = dktX4_init_18 := dk_seg dksX4_init_17 24 rfl rfl
theorem dksX4_init_19 : cX4_init.data.toList.drop 454 = dktX4_init_19 := dk_seg dksX4_init_18 24 rfl rfl
theorem dksX4_init_20 : cX4_init.data.toList.drop 478 = dktX4_init_20 := dk_seg dksX4_init_19 24 rfl rfl
theorem dksX4_init_21 : cX4_init.data.toList.drop 502 = dktX4_init_21 := dk_seg dksX4_init_20 24 rfl rfl
theorem dksX4_init_22 : cX4_init.data.toList.drop 526 = dktX4_init_22 := dk_seg dksX4_init_21 24 rfl rfl
theorem dksX4_init_23 : cX4_init.data.toList.drop 550 = dktX4_init_23 := dk_seg dksX4_init_22 24 rfl rfl
theorem dksX4_init_24 : cX4_init.data.toList.drop 574 = dktX4_init_24 := dk_seg dksX4_init_23 24 rfl rfl
theorem dksX4_init_25 : cX4_init.data.toList.drop 597 = dktX4_init_25 := dk_seg dksX4_init_24 23 rfl rfl
theorem dX4_init_0 : decode cX4_init 0 = .ok (.aload_n 0, 1) := dk_42 (dk_at dksX4_init_0 0 rfl rfl)
theorem dX4_init_1 : decode cX4_init 1 = .ok (.invokespecial 1, 3) := dk_183 0 1 (dk_at dksX4_init_0 1 rfl rfl)
theorem dX4_init_4 : decode cX4_init 4 = .ok (.aload_n 0, 1) := dk_42 (dk_at dksX4_init_0 4 rfl rfl)
theorem dX4_init_5 : decode cX4_init 5 = .ok (.sipush 213, 3) := dk_17 0 213 (dk_at dksX4_init_0 5 rfl rfl)
theorem dX4_init_8 : decode cX4_init 8 = .ok (.newarray .int, 2) := dk_188_10 (dk_at dksX4_init_0 8 rfl rfl)
theorem dX4_init_10 : decode cX4_init 10 = .ok (.putfield 9, 3) := dk_181 0 9 (dk_at dksX4_init_0 10 rfl rfl)
theorem dX4_init_13 : decode cX4_init 13 = .ok (.aload_n 0, 1) := dk_42 (dk_at dksX4_init_0 13 rfl rfl)
theorem dX4_init_14 : decode cX4_init 14 = .ok (.sipush 213, 3) := dk_17 0 213 (dk_at dksX4_init_0 14 rfl rfl)
theorem dX4_init_17 : decode cX4_init 17 = .ok (.newarray .int, 2) := dk_188_10 (dk_at dksX4_init_0 17 rfl rfl)
theorem dX4_init_19 : decode cX4_init 19 = .ok (.putfield 13, 3) := dk_181 0 13 (dk_at dksX4_init_0 19 rfl rfl)
theorem dX4_init_22 : decode cX4_init 22 = .ok (.aload_n 0, 1) := dk_42 (dk_at dksX4_init_0 22 rfl rfl)
theorem dX4_init_23 : decode cX4_init 23 = .ok (.sipush 213, 3) := dk_17 0 213 (dk_at dksX4_init_1 0 rfl rfl)
theorem dX4_init_26 : decode cX4_init 26 = .ok (.newarray .int, 2) := dk_188_10 (dk_at dksX4_init_1 3 rfl rfl)
theorem dX4_init_28 : decode cX4_init 28 = .ok (.putfield 16, 3) := dk_181 0 16 (dk_at dksX4_init_1 5 rfl rfl)
theorem dX4_init_31 : decode cX4_init 31 = .ok (.aload_n 0, 1) := dk_42 (dk_at dksX4_init_1 8 rfl rfl)
theorem dX4_init_32 : decode cX4_init 32 = .ok (.sipush 1704, 3) := dk_17 6 168 (dk_at dksX4_init_1 9 rfl rfl)
theorem dX4_init_35 : decode cX4_init 35 = .ok (.newarray .int, 2) := dk_188_10 (dk_at dksX4_init_1 12 rfl rfl)
theorem dX4_init_37 : decode cX4_init 37 = .ok (.putfield 19, 3) := dk_181 0 19 (dk_at dksX4_init_1 14 rfl rfl)
theorem dX4_init_40 : decode cX4_init 40 = .ok (.aload_n 0, 1) := dk_42 (dk_at dksX4_init_1 17 rfl rfl)
theorem dX4_init_41 : decode cX4_init 41 = .ok (.iconst (-1), 1) := dk_2 (dk_at dksX4_init_1 18 rfl rfl)
theorem dX4_init_42 : decode cX4_init 42 = .ok (.putfield 22, 3) := dk_181 0 22 (dk_at dksX4_init_1 19 rfl rfl)
theorem dX4_init_45 : decode cX4_init 45 = .ok (.aload_n 0, 1) := dk_42 (dk_at dksX4_init_1 22 rfl rfl)
theorem dX4_init_46 : decode cX4_init 46 = .ok (.iconst (-1), 1) := dk_2 (dk_at dksX4_init_1 23 rfl rfl)
theorem dX4_init_47 : decode cX4_init 47 = .ok (.putfield 26, 3) := dk_181 0 26 (dk_at dksX4_init_2 0 rfl rfl)
theorem dX4_init_50 : decode cX4_init 50 = .ok (.aload_n 0, 1) := dk_42 (dk_at dksX4_init_2 3 rfl rfl)
theorem dX4_init_51 : decode cX4_init 51 = .ok (.bipush 60, 2) := dk_16 60 (dk_at dksX4_init_2 4 rfl rfl)
theorem dX4_init_53 : decode cX4_init 53 = .ok (.newarray .int, 2) := dk_188_10 (dk_at dksX4_init_2 6 rfl rfl)
theorem dX4_init_55 : decode cX4_init 55 = .ok (.putfield 29, 3) := dk_181 0 29 (dk_at dksX4_init_2 8 rfl rfl)
theorem dX4_init_58 : decode cX4_init 58 = .ok (.aload_n 0, 1) := dk_42 (dk_at dksX4_init_2 11 rfl rfl)
theorem dX4_init_59 : decode cX4_init 59 = .ok (.bipush 8, 2) := dk_16 8 (dk_at dksX4_init_2 12 rfl rfl)
theorem dX4_init_61 : decode cX4_init 61 = .ok (.newarray .int, 2) := dk_188_10 (dk_at dksX4_init_2 14 rfl rfl)
theorem dX4_init_63 : decode cX4_init 63 = .ok (.putfield 32, 3) := dk_181 0 32 (dk_at dksX4_init_2 16 rfl rfl)
theorem dX4_init_66 : decode cX4_init 66 = .ok (.aload_n 0, 1) := dk_42 (dk_at dksX4_init_2 19 rfl rfl)
theorem dX4_init_67 : decode cX4_init 67 = .ok (.bipush 100, 2) := dk_16 100 (dk_at dksX4_init_2 20 rfl rfl)
theorem dX4_init_69 : decode cX4_init 69 = .ok (.newarray .int, 2) := dk_188_10 (dk_at dksX4_init_2 22 rfl rfl)
theorem dX4_init_71 : decode cX4_init 71 = .ok (.putfield 35, 3) := dk_181 0 35 (dk_at dksX4_init_3 0 rfl rfl)
theorem dX4_init_74 : decode cX4_init 74 = .ok (.aload_n 0, 1) := dk_42 (dk_at dksX4_init_3 3 rfl rfl)
theorem dX4_init_75 : decode cX4_init 75 = .ok (.bipush 66, 2) := dk_16 66 (dk_at dksX4_init_3 4 rfl rfl)
theorem dX4_init_77 : decode cX4_init 77 = .ok (.newarray .char, 2) := dk_188_5 (dk_at dksX4_init_3 6 rfl rfl)
theorem dX4_init_79 : decode cX4_init 79 = .ok (.dup, 1) := dk_89 (dk_at dksX4_init_3 8 rfl rfl)
theorem dX4_init_80 : decode cX4_init 80 = .ok (.iconst 0, 1) := dk_3 (dk_at dksX4_init_3 9 rfl rfl)
theorem dX4_init_81 : decode cX4_init 81 = .ok (.bipush 104, 2) := dk_16 104 (dk_at dksX4_init_3 10 rfl rfl)
theorem dX4_init_83 : decode cX4_init 83 = .ok (.castore, 1) := dk_85 (dk_at dksX4_init_3 12 rfl rfl)
theorem dX4_init_84 : decode cX4_init 84 = .ok (.dup, 1) := dk_89 (dk_at dksX4_init_3 13 rfl rfl)
theorem dX4_init_85 : decode cX4_init 85 = .ok (.iconst 1, 1) := dk_4 (dk_at dksX4_init_3 14 rfl rfl)
theorem dX4_init_86 : decode cX4_init 86 = .ok (.bipush 117, 2) := dk_16 117 (dk_at dksX4_init_3 15 rfl rfl)
theorem dX4_init_88 : decode cX4_init 88 = .ok (.castore, 1) := dk_85 (dk_at dksX4_init_3 17 rfl rfl)
theorem dX4_init_89 : decode cX4_init 89 = .ok (.dup, 1) := dk_89 (dk_at dksX4_init_3 18 rfl rfl)
theorem dX4_init_90 : decode cX4_init 90 = .ok (.iconst 2, 1) := dk_5 (dk_at dksX4_init_3 19 rfl rfl)
theorem dX4_init_91 : decode cX4_init 91 = .ok (.bipush 108, 2) := dk_16 108 (dk_at dksX4_init_3 20 rfl rfl)
theorem dX4_init_93 : decode cX4_init 93 = .ok (.castore, 1) := dk_85 (dk_at dksX4_init_3 22 rfl rfl)
theorem dX4_init_94 : decode cX4_init 94 = .ok (.dup, 1) := dk_89 (dk_at dksX4_init_3 23 rfl rfl)
theorem dX4_init_95 : decode cX4_init 95 = .ok (.iconst 3, 1) := dk_6 (dk_at dksX4_init_4 0 rfl rfl)
theorem dX4_init_96 : decode cX4_init 96 = .ok (.bipush 108, 2) := dk_16 108 (dk_at dksX4_init_4 1 rfl rfl)
theorem dX4_init_98 : decode cX4_init 98 = .ok (.castore, 1) := dk_85 (dk_at dksX4_init_4 3 rfl rfl)
theorem dX4_init_99 : decode cX4_init 99 = .ok (.dup, 1) := dk_89 (dk_at dksX4_init_4 4 rfl rfl)
theorem dX4_init_100 : decode cX4_init 100 = .ok (.iconst 4, 1) := dk_7 (dk_at dksX4_init_4 5 rfl rfl)
theorem dX4_init_101 : decode cX4_init 101 = .ok (.bipush 102, 2) := dk_16 102 (dk_at dksX4_init_4 6 rfl rfl)
theorem dX4_init_103 : decode cX4_init 103 = .ok (.castore, 1) := dk_85 (dk_at dksX4_init_4 8 rfl rfl)
theorem dX4_init_104 : decode cX4_init 104 = .ok (.dup, 1) := dk_89 (dk_at dksX4_init_4 9 rfl rfl)
theorem dX4_init_105 : decode cX4_init 105 = .ok (.iconst 5, 1) := dk_8 (dk_at dksX4_init_4 10 rfl rfl)
theorem dX4_init_106 : decode cX4_init 106 = .ok (.bipush 114, 2) := dk_16 114 (dk_at dksX4_init_4 11 rfl rfl)
theorem dX4_init_108 : decode cX4_init 108 = .ok (.castore, 1) := dk_85 (dk_at dksX4_init_4 13 rfl rfl)
theorem dX4_init_109 : decode cX4_init 109 = .ok (.dup, 1) := dk_89 (dk_at dksX4_init_4 14 rfl rfl)
theorem dX4_init_110 : decode cX4_init 110 = .ok (.bipush 6, 2) := dk_16 6 (dk_at dksX4_init_4 15 rfl rfl)
theorem dX4_init_112 : decode cX4_init 112 = .ok (.bipush 97, 2) := dk_16 97 (dk_at dksX4_init_4 17 rfl rfl)
theorem dX4_init_114 : decode cX4_init 114 = .ok (.castore, 1) := dk_85 (dk_at dksX4_init_4 19 rfl rfl)
theorem dX4_init_115 : decode cX4_init 115 = .ok (.dup, 1) := dk_89 (dk_at dksX4_init_4 20 rfl rfl)
theorem dX4_init_116 : decode cX4_init 116 = .ok (.bipush 7, 2) := dk_16 7 (dk_at dksX4_init_4 21 rfl rfl)
theorem dX4_init_118 : decode cX4_init 118 = .ok (.bipush 109, 2) := dk_16 109 (dk_at dksX4_init_5 0 rfl rfl)
theorem dX4_init_120 : decode cX4_init 120 = .ok (.castore, 1) := dk_85 (dk_at dksX4_init_5 2 rfl rfl)
theorem dX4_init_121 : decode cX4_init 121 = .ok (.dup, 1) := dk_89 (dk_at dksX4_init_5 3 rfl rfl)
theorem dX4_init_122 : decode cX4_init 122 = .ok (.bipush 8, 2) := dk_16 8 (dk_at dksX4_init_5 4 rfl rfl)
theorem dX4_init_124 : decode cX4_init 124 = .ok (.bipush 101, 2) := dk_16 101 (dk_at dksX4_init_5 6 rfl rfl)
theorem dX4_init_126 : decode cX4_init 126 = .ok (.castore, 1) := dk_85 (dk_at dksX4_init_5 8 rfl rfl)
theorem dX4_init_127 : decode cX4_init 127 = .ok (.dup, 1) := dk_89 (dk_at dksX4_init_5 9 rfl rfl)
theorem dX4_init_128 : decode cX4_init 128 = .ok (.bipush 9, 2) := dk_16 9 (dk_at dksX4_init_5 10 rfl rfl)
theorem dX4_init_130 : decode cX4_init 130 = .ok (.bipush 32, 2) := dk_16 32 (dk_at dksX4_init_5 12 rfl rfl)
theorem dX4_init_132 : decode cX4_init 132 = .ok (.castore, 1) := dk_85 (dk_at dksX4_init_5 14 rfl rfl)
theorem dX4_init_133 : decode cX4_init 133 = .ok (.dup, 1) := dk_89 (dk_at dksX4_init_5 15 rfl rfl)
theorem dX4_init_134 : decode cX4_init 134 = .ok (.bipush 10, 2) := dk_16 10 (dk_at dksX4_init_5 16 rfl rfl)
theorem dX4_init_136 : decode cX4_init 136 = .ok (.bipush 109, 2) := dk_16 109 (dk_at dksX4_init_5 18 rfl rfl)
theorem dX4_init_138 : decode cX4_init 138 = .ok (.castore, 1) := dk_85 (dk_at dksX4_init_5 20 rfl rfl)
theorem dX4_init_139 : decode cX4_init 139 = .ok (.dup, 1) := dk_89 (dk_at dksX4_init_5 21 rfl rfl)
theorem dX4_init_140 : decode cX4_init 140 = .ok (.bipush 11, 2) := dk_16 11 (dk_at dksX4_init_5 22 rfl rfl)
theorem dX4_init_142 : decode cX4_init 142 = .ok (.bipush 105, 2) := dk_16 105 (dk_at dksX4_init_6 0 rfl rfl)
theorem dX4_init_144 : decode cX4_init 144 = .ok (.castore, 1) := dk_85 (dk_at dksX4_init_6 2 rfl rfl)
theorem dX4_init_145 : decode cX4_init 145 = .ok (.dup, 1) := dk_89 (dk_at dksX4_init_6 3 rfl rfl)
theorem dX4_init_146 : decode cX4_init 146 = .ok (.bipush 12, 2) := dk_16 12 (dk_at dksX4_init_6 4 rfl rfl)
theorem dX4_init_148 : decode cX4_init 148 = .ok (.bipush 114, 2) := dk_16 114 (dk_at dksX4_init_6 6 rfl rfl)
theorem dX4_init_150 : decode cX4_init 150 = .ok (.castore, 1) := dk_85 (dk_at dksX4_init_6 8 rfl rfl)
theorem dX4_init_151 : decode cX4_init 151 = .ok (.dup, 1) := dk_89 (dk_at dksX4_init_6 9 rfl rfl)
theorem dX4_init_152 : decode cX4_init 152 = .ok (.bipush 13, 2) := dk_16 13 (dk_at dksX4_init_6 10 rfl rfl)
theorem dX4_init_154 : decode cX4_init 154 = .ok (.bipush 114, 2) := dk_16 114 (dk_at dksX4_init_6 12 rfl rfl)
theorem dX4_init_156 : decode cX4_init 156 = .ok (.castore, 1) := dk_85 (dk_at dksX4_init_6 14 rfl rfl)
theorem dX4_init_157 : decode cX4_init 157 = .ok (.dup, 1) := dk_89 (dk_at dksX4_init_6 15 rfl rfl)
theorem dX4_init_158 : decode cX4_init 158 = .ok (.bipush 14, 2) := dk_16 14 (dk_at dksX4_init_6 16 rfl rfl)
theorem dX4_init_160 : decode cX4_init 160 = .ok (.bipush 111, 2) := dk_16 111 (dk_at dksX4_init_6 18 rfl rfl)
theorem dX4_init_162 : decode cX4_init 162 = .ok (.castore, 1) := dk_85 (dk_at dksX4_init_6 20 rfl rfl)
theorem dX4_init_163 : decode cX4_init 163 = .ok (.dup, 1) := dk_89 (dk_at dksX4_init_6 21 rfl rfl)
theorem dX4_init_164 : decode cX4_init 164 = .ok (.bipush 15, 2) := dk_16 15 (dk_at dksX4_init_6 22 rfl rfl)
theorem dX4_init_166 : decode cX4_init 166 = .ok (.bipush 114, 2) := dk_16 114 (dk_at dksX4_init_7 0 rfl rfl)
theorem dX4_init_168 : decode cX4_init 168 = .ok (.castore, 1) := dk_85 (dk_at dksX4_init_7 2 rfl rfl)
theorem dX4_init_169 : decode cX4_init 169 = .ok (.dup, 1) := dk_89 (dk_at dksX4_init_7 3 rfl rfl)
theorem dX4_init_170 : decode cX4_init 170 = .ok (.bipush 16, 2) := dk_16 16 (dk_at dksX4_init_7 4 rfl rfl)
theorem dX4_init_172 : decode cX4_init 172 = .ok (.bipush 32, 2) := dk_16 32 (dk_at dksX4_init_7 6 rfl rfl)
theorem dX4_init_174 : decode cX4_init 174 = .ok (.castore, 1) := dk_85 (dk_at dksX4_init_7 8 rfl rfl)
theorem dX4_init_175 : decode cX4_init 175 = .ok (.dup, 1) := dk_89 (dk_at dksX4_init_7 9 rfl rfl)
theorem dX4_init_176 : decode cX4_init 176 = .ok (.bipush 17, 2) := dk_16 17 (dk_at dksX4_init_7 10 rfl rfl)
theorem dX4_init_178 : decode cX4_init 178 = .ok (.bipush 99, 2) := dk_16 99 (dk_at dksX4_init_7 12 rfl rfl)
theorem dX4_init_180 : decode cX4_init 180 = .ok (.castore, 1) := dk_85 (dk_at dksX4_init_7 14 rfl rfl)
theorem dX4_init_181 : decode cX4_init 181 = .ok (.dup, 1) := dk_89 (dk_at dksX4_init_7 15 rfl rfl)
theorem dX4_init_182 : decode cX4_init 182 = .ok (.bipush 18, 2) := dk_16 18 (dk_at dksX4_init_7 16 rfl rfl)
theorem dX4_init_184 : decode cX4_init 184 = .ok (.bipush 97, 2) := dk_16 97 (dk_at dksX4_init_7 18 rfl rfl)
theorem dX4_init_186 : decode cX4_init 186 = .ok (.castore, 1) := dk_85 (dk_at dksX4_init_7 20 rfl rfl)
theorem dX4_init_187 : decode cX4_init 187 = .ok (.dup, 1) := dk_89 (dk_at dksX4_init_7 21 rfl rfl)
theorem dX4_init_188 : decode cX4_init 188 = .ok (.bipush 19, 2) := dk_16 19 (dk_at dksX4_init_7 22 rfl rfl)
theorem dX4_init_190 : decode cX4_init 190 = .ok (.bipush 114, 2) := dk_16 114 (dk_at dksX4_init_8 0 rfl rfl)
theorem dX4_init_192 : decode cX4_init 192 = .ok (.castore, 1) := dk_85 (dk_at dksX4_init_8 2 rfl rfl)
theorem dX4_init_193 : decode cX4_init 193 = .ok (.dup, 1) := dk_89 (dk_at dksX4_init_8 3 rfl rfl)
theorem dX4_init_194 : decode cX4_init 194 = .ok (.bipush 20, 2) := dk_16 20 (dk_at dksX4_init_8 4 rfl rfl)
theorem dX4_init_196 : decode cX4_init 196 = .ok (.bipush 103, 2) := dk_16 103 (dk_at dksX4_init_8 6 rfl rfl)
theorem dX4_init_198 : decode cX4_init 198 = .ok (.castore, 1) := dk_85 (dk_at dksX4_init_8 8 rfl rfl)
theorem dX4_init_199 : decode cX4_init 199 = .ok (.dup, 1) := dk_89 (dk_at dksX4_init_8 9 rfl rfl)
theorem dX4_init_200 : decode cX4_init 200 = .ok (.bipush 21, 2) := dk_16 21 (dk_at dksX4_init_8 10 rfl rfl)
theorem dX4_init_202 : decode cX4_init 202 = .ok (.bipush 111, 2) := dk_16 111 (dk_at dksX4_init_8 12 rfl rfl)
theorem dX4_init_204 : decode cX4_init 204 = .ok (.castore, 1) := dk_85 (dk_at dksX4_init_8 14 rfl rfl)
theorem dX4_init_205 : decode cX4_init 205 = .ok (.dup, 1) := dk_89 (dk_at dksX4_init_8 15 rfl rfl)
theorem dX4_init_206 : decode cX4_init 206 = .ok (.bipush 22, 2) := dk_16 22 (dk_at dksX4_init_8 16 rfl rfl)
theorem dX4_init_208 : decode cX4_init 208 = .ok (.bipush 32, 2) := dk_16 32 (dk_at dksX4_init_8 18 rfl rfl)
theorem dX4_init_210 : decode cX4_init 210 = .ok (.castore, 1) := dk_85 (dk_at dksX4_init_8 20 rfl rfl)
theorem dX4_init_211 : decode cX4_init 211 = .ok (.dup, 1) := dk_89 (dk_at dksX4_init_8 21 rfl rfl)
theorem dX4_init_212 : decode cX4_init 212 = .ok (.bipush 23, 2) := dk_16 23 (dk_at dksX4_init_8 22 rfl rfl)
theorem dX4_init_214 : decode cX4_init 214 = .ok (.bipush 108, 2) := dk_16 108 (dk_at dksX4_init_9 0 rfl rfl)
theorem dX4_init_216 : decode cX4_init 216 = .ok (.castore, 1) := dk_85 (dk_at dksX4_init_9 2 rfl rfl)
theorem dX4_init_217 : decode cX4_init 217 = .ok (.dup, 1) := dk_89 (dk_at dksX4_init_9 3 rfl rfl)
theorem dX4_init_218 : decode cX4_init 218 = .ok (.bipush 24, 2) := dk_16 24 (dk_at dksX4_init_9 4 rfl rfl)
theorem dX4_init_220 : decode cX4_init 220 = .ok (.bipush 97, 2) := dk_16 97 (dk_at dksX4_init_9 6 rfl rfl)
theorem dX4_init_222 : decode cX4_init 222 = .ok (.castore, 1) := dk_85 (dk_at dksX4_init_9 8 rfl rfl)
theorem dX4_init_223 : decode cX4_init 223 = .ok (.dup, 1) := dk_89 (dk_at dksX4_init_9 9 rfl rfl)
theorem dX4_init_224 : decode cX4_init 224 = .ok (.bipush 25, 2) := dk_16 25 (dk_at dksX4_init_9 10 rfl rfl)
theorem dX4_init_226 : decode cX4_init 226 = .ok (.bipush 117, 2) := dk_16 117 (dk_at dksX4_init_9 12 rfl rfl)
theorem dX4_init_228 : decode cX4_init 228 = .ok (.castore, 1) := dk_85 (dk_at dksX4_init_9 14 rfl rfl)
theorem dX4_init_229 : decode cX4_init 229 = .ok (.dup, 1) := dk_89 (dk_at dksX4_init_9 15 rfl rfl)
theorem dX4_init_230 : decode cX4_init 230 = .ok (.bipush 26, 2) := dk_16 26 (dk_at dksX4_init_9 16 rfl rfl)
theorem dX4_init_232 : decode cX4_init 232 = .ok (.bipush 110, 2) := dk_16 110 (dk_at dksX4_init_9 18 rfl rfl)
theorem dX4_init_234 : decode cX4_init 234 = .ok (.castore, 1) := dk_85 (dk_at dksX4_init_9 20 rfl rfl)
theorem dX4_init_235 : decode cX4_init 235 = .ok (.dup, 1) := dk_89 (dk_at dksX4_init_9 21 rfl rfl)
theorem dX4_init_236 : decode cX4_init 236 = .ok (.bipush 27, 2) := dk_16 27 (dk_at dksX4_init_9 22 rfl rfl)
theorem dX4_init_238 : decode cX4_init 238 = .ok (.bipush 99, 2) := dk_16 99 (dk_at dksX4_init_10 0 rfl rfl)
theorem dX4_init_240 : decode cX4_init 240 = .ok (.castore, 1) := dk_85 (dk_at dksX4_init_10 2 rfl rfl)
theorem dX4_init_241 : decode cX4_init 241 = .ok (.dup, 1) := dk_89 (dk_at dksX4_init_10 3 rfl rfl)
theorem dX4_init_242 : decode cX4_init 242 = .ok (.bipush 28, 2) := dk_16 28 (dk_at dksX4_init_10 4 rfl rfl)
theorem dX4_init_244 : decode cX4_init 244 = .ok (.bipush 104, 2) := dk_16 104 (dk_at dksX4_init_10 6 rfl rfl)
theorem dX4_init_246 : decode cX4_init 246 = .ok (.castore, 1) := dk_85 (dk_at dksX4_init_10 8 rfl rfl)
theorem dX4_init_247 : decode cX4_init 247 = .ok (.dup, 1) := dk_89 (dk_at dksX4_init_10 9 rfl rfl)
theorem dX4_init_248 : decode cX4_init 248 = .ok (.bipush 29, 2) := dk_16 29 (dk_at dksX4_init_10 10 rfl rfl)
theorem dX4_init_250 : decode cX4_init 250 = .ok (.bipush 32, 2) := dk_16 32 (dk_at dksX4_init_10 12 rfl rfl)
theorem dX4_init_252 : decode cX4_init 252 = .ok (.castore, 1) := dk_85 (dk_at dksX4_init_10 14 rfl rfl)
theorem dX4_init_253 : decode cX4_init 253 = .ok (.dup, 1) := dk_89 (dk_at dksX4_init_10 15 rfl rfl)
theorem dX4_init_254 : decode cX4_init 254 = .ok (.bipush 30, 2) := dk_16 30 (dk_at dksX4_init_10 16 rfl rfl)
theorem dX4_init_256 : decode cX4_init 256 = .ok (.bipush 99, 2) := dk_16 99 (dk_at dksX4_init_10 18 rfl rfl)
theorem dX4_init_258 : decode cX4_init 258 = .ok (.castore, 1) := dk_85 (dk_at dksX4_init_10 20 rfl rfl)
theorem dX4_init_259 : decode cX4_init 259 = .ok (.dup, 1) := dk_89 (dk_at dksX4_init_10 21 rfl rfl)
theorem dX4_init_260 : decode cX4_init 260 = .ok (.bipush 31, 2) := dk_16 31 (dk_at dksX4_init_10 22 rfl rfl)
theorem dX4_init_262 : decode cX4_init 262 = .ok (.bipush 97, 2) := dk_16 97 (dk_at dksX4_init_11 0 rfl rfl)
theorem dX4_init_264 : decode cX4_init 264 = .ok (.castore, 1) := dk_85 (dk_at dksX4_init_11 2 rfl rfl)
theorem dX4_init_265 : decode cX4_init 265 = .ok (.dup, 1) := dk_89 (dk_at dksX4_init_11 3 rfl rfl)
theorem dX4_init_266 : decode cX4_init 266 = .ok (.bipush 32, 2) := dk_16 32 (dk_at dksX4_init_11 4 rfl rfl)
theorem dX4_init_268 : decode cX4_init 268 = .ok (.bipush 117, 2) := dk_16 117 (dk_at dksX4_init_11 6 rfl rfl)
theorem dX4_init_270 : decode cX4_init 270 = .ok (.castore, 1) := dk_85 (dk_at dksX4_init_11 8 rfl rfl)
theorem dX4_init_271 : decode cX4_init 271 = .ok (.dup, 1) := dk_89 (dk_at dksX4_init_11 9 rfl rfl)
theorem dX4_init_272 : decode cX4_init 272 = .ok (.bipush 33, 2) := dk_16 33 (dk_at dksX4_init_11 10 rfl rfl)
theorem dX4_init_274 : decode cX4_init 274 = .ok (.bipush 108, 2) := dk_16 108 (dk_at dksX4_init_11 12 rfl rfl)
theorem dX4_init_276 : decode cX4_init 276 = .ok (.castore, 1) := dk_85 (dk_at dksX4_init_11 14 rfl rfl)
theorem dX4_init_277 : decode cX4_init 277 = .ok (.dup, 1) := dk_89 (dk_at dksX4_init_11 15 rfl rfl)
theorem dX4_init_278 : decode cX4_init 278 = .ok (.bipush 34, 2) := dk_16 34 (dk_at dksX4_init_11 16 rfl rfl)
theorem dX4_init_280 : decode cX4_init 280 = .ok (.bipush 107, 2) := dk_16 107 (dk_at dksX4_init_11 18 rfl rfl)
theorem dX4_init_282 : decode cX4_init 282 = .ok (.castore, 1) := dk_85 (dk_at dksX4_init_11 20 rfl rfl)
theorem dX4_init_283 : decode cX4_init 283 = .ok (.dup, 1) := dk_89 (dk_at dksX4_init_11 21 rfl rfl)
theorem dX4_init_284 : decode cX4_init 284 = .ok (.bipush 35, 2) := dk_16 35 (dk_at dksX4_init_11 22 rfl rfl)
theorem dX4_init_286 : decode cX4_init 286 = .ok (.bipush 32, 2) := dk_16 32 (dk_at dksX4_init_12 0 rfl rfl)
theorem dX4_init_288 : decode cX4_init 288 = .ok (.castore, 1) := dk_85 (dk_at dksX4_init_12 2 rfl rfl)
theorem dX4_init_289 : decode cX4_init 289 = .ok (.dup, 1) := dk_89 (dk_at dksX4_init_12 3 rfl rfl)
theorem dX4_init_290 : decode cX4_init 290 = .ok (.bipush 36, 2) := dk_16 36 (dk_at dksX4_init_12 4 rfl rfl)
theorem dX4_init_292 : decode cX4_init 292 = .ok (.bipush 112, 2) := dk_16 112 (dk_at dksX4_init_12 6 rfl rfl)
theorem dX4_init_294 : decode cX4_init 294 = .ok (.castore, 1) := dk_85 (dk_at dksX4_init_12 8 rfl rfl)
theorem dX4_init_295 : decode cX4_init 295 = .ok (.dup, 1) := dk_89 (dk_at dksX4_init_12 9 rfl rfl)
theorem dX4_init_296 : decode cX4_init 296 = .ok (.bipush 37, 2) := dk_16 37 (dk_at dksX4_init_12 10 rfl rfl)
theorem dX4_init_298 : decode cX4_init 298 = .ok (.bipush 117, 2) := dk_16 117 (dk_at dksX4_init_12 12 rfl rfl)
theorem dX4_init_300 : decode cX4_init 300 = .ok (.castore, 1) := dk_85 (dk_at dksX4_init_12 14 rfl rfl)
theorem dX4_init_301 : decode cX4_init 301 = .ok (.dup, 1) := dk_89 (dk_at dksX4_init_12 15 rfl rfl)
theorem dX4_init_302 : decode cX4_init 302 = .ok (.bipush 38, 2) := dk_16 38 (dk_at dksX4_init_12 16 rfl rfl)
theorem dX4_init_304 : decode cX4_init 304 = .ok (.bipush 109, 2) := dk_16 109 (dk_at dksX4_init_12 18 rfl rfl)
theorem dX4_init_306 : decode cX4_init 306 = .ok (.castore, 1) := dk_85 (dk_at dksX4_init_12 20 rfl rfl)
theorem dX4_init_307 : decode cX4_init 307 = .ok (.dup, 1) := dk_89 (dk_at dksX4_init_12 21 rfl rfl)
theorem dX4_init_308 : decode cX4_init 308 = .ok (.bipush 39, 2) := dk_16 39 (dk_at dksX4_init_12 22 rfl rfl)
theorem dX4_init_310 : decode cX4_init 310 = .ok (.bipush 112, 2) := dk_16 112 (dk_at dksX4_init_13 0 rfl rfl)
theorem dX4_init_312 : decode cX4_init 312 = .ok (.castore, 1) := dk_85 (dk_at dksX4_init_13 2 rfl rfl)
theorem dX4_init_313 : decode cX4_init 313 = .ok (.dup, 1) := dk_89 (dk_at dksX4_init_13 3 rfl rfl)
theorem dX4_init_314 : decode cX4_init 314 = .ok (.bipush 40, 2) := dk_16 40 (dk_at dksX4_init_13 4 rfl rfl)
theorem dX4_init_316 : decode cX4_init 316 = .ok (.bipush 32, 2) := dk_16 32 (dk_at dksX4_init_13 6 rfl rfl)
theorem dX4_init_318 : decode cX4_init 318 = .ok (.castore, 1) := dk_85 (dk_at dksX4_init_13 8 rfl rfl)
theorem dX4_init_319 : decode cX4_init 319 = .ok (.dup, 1) := dk_89 (dk_at dksX4_init_13 9 rfl rfl)
theorem dX4_init_320 : decode cX4_init 320 = .ok (.bipush 41, 2) := dk_16 41 (dk_at dksX4_init_13 10 rfl rfl)
theorem dX4_init_322 : decode cX4_init 322 = .ok (.bipush 104, 2) := dk_16 104 (dk_at dksX4_init_13 12 rfl rfl)
theorem dX4_init_324 : decode cX4_init 324 = .ok (.castore, 1) := dk_85 (dk_at dksX4_init_13 14 rfl rfl)
theorem dX4_init_325 : decode cX4_init 325 = .ok (.dup, 1) := dk_89 (dk_at dksX4_init_13 15 rfl rfl)
theorem dX4_init_326 : decode cX4_init 326 = .ok (.bipush 42, 2) := dk_16 42 (dk_at dksX4_init_13 16 rfl rfl)
theorem dX4_init_328 : decode cX4_init 328 = .ok (.bipush 111, 2) := dk_16 111 (dk_at dksX4_init_13 18 rfl rfl)
theorem dX4_init_330 : decode cX4_init 330 = .ok (.castore, 1) := dk_85 (dk_at dksX4_init_13 20 rfl rfl)
theorem dX4_init_331 : decode cX4_init 331 = .ok (.dup, 1) := dk_89 (dk_at dksX4_init_13 21 rfl rfl)
theorem dX4_init_332 : decode cX4_init 332 = .ok (.bipush 43, 2) := dk_16 43 (dk_at dksX4_init_13 22 rfl rfl)
theorem dX4_init_334 : decode cX4_init 334 = .ok (.bipush 117, 2) := dk_16 117 (dk_at dksX4_init_14 0 rfl rfl)
theorem dX4_init_336 : decode cX4_init 336 = .ok (.castore, 1) := dk_85 (dk_at dksX4_init_14 2 rfl rfl)
theorem dX4_init_337 : decode cX4_init 337 = .ok (.dup, 1) := dk_89 (dk_at dksX4_init_14 3 rfl rfl)
theorem dX4_init_338 : decode cX4_init 338 = .ok (.bipush 44, 2) := dk_16 44 (dk_at dksX4_init_14 4 rfl rfl)
theorem dX4_init_340 : decode cX4_init 340 = .ok (.bipush 114, 2) := dk_16 114 (dk_at dksX4_init_14 6 rfl rfl)
theorem dX4_init_342 : decode cX4_init 342 = .ok (.castore, 1) := dk_85 (dk_at dksX4_init_14 8 rfl rfl)
theorem dX4_init_343 : decode cX4_init 343 = .ok (.dup, 1) := dk_89 (dk_at dksX4_init_14 9 rfl rfl)
theorem dX4_init_344 : decode cX4_init 344 = .ok (.bipush 45, 2) := dk_16 45 (dk_at dksX4_init_14 10 rfl rfl)
theorem dX4_init_346 : decode cX4_init 346 = .ok (.bipush 115, 2) := dk_16 115 (dk_at dksX4_init_14 12 rfl rfl)
theorem dX4_init_348 : decode cX4_init 348 = .ok (.castore, 1) := dk_85 (dk_at dksX4_init_14 14 rfl rfl)
theorem dX4_init_349 : decode cX4_init 349 = .ok (.dup, 1) := dk_89 (dk_at dksX4_init_14 15 rfl rfl)
theorem dX4_init_350 : decode cX4_init 350 = .ok (.bipush 46, 2) := dk_16 46 (dk_at dksX4_init_14 16 rfl rfl)
theorem dX4_init_352 : decode cX4_init 352 = .ok (.bipush 32, 2) := dk_16 32 (dk_at dksX4_init_14 18 rfl rfl)
theorem dX4_init_354 : decode cX4_init 354 = .ok (.castore, 1) := dk_85 (dk_at dksX4_init_14 20 rfl rfl)
theorem dX4_init_355 : decode cX4_init 355 = .ok (.dup, 1) := dk_89 (dk_at dksX4_init_14 21 rfl rfl)
theorem dX4_init_356 : decode cX4_init 356 = .ok (.bipush 47, 2) := dk_16 47 (dk_at dksX4_init_14 22 rfl rfl)
theorem dX4_init_358 : decode cX4_init 358 = .ok (.bipush 116, 2) := dk_16 116 (dk_at dksX4_init_15 0 rfl rfl)
theorem dX4_init_360 : decode cX4_init 360 = .ok (.castore, 1) := dk_85 (dk_at dksX4_init_15 2 rfl rfl)
theorem dX4_init_361 : decode cX4_init 361 = .ok (.dup, 1) := dk_89 (dk_at dksX4_init_15 3 rfl rfl)
theorem dX4_init_362 : decode cX4_init 362 = .ok (.bipush 48, 2) := dk_16 48 (dk_at dksX4_init_15 4 rfl rfl)
theorem dX4_init_364 : decode cX4_init 364 = .ok (.bipush 105, 2) := dk_16 105 (dk_at dksX4_init_15 6 rfl rfl)
theorem dX4_init_366 : decode cX4_init 366 = .ok (.castore, 1) := dk_85 (dk_at dksX4_init_15 8 rfl rfl)
theorem dX4_init_367 : decode cX4_init 367 = .ok (.dup, 1) := dk_89 (dk_at dksX4_init_15 9 rfl rfl)
theorem dX4_init_368 : decode cX4_init 368 = .ok (.bipush 49, 2) := dk_16 49 (dk_at dksX4_init_15 10 rfl rfl)
theorem dX4_init_370 : decode cX4_init 370 = .ok (.bipush 100, 2) := dk_16 100 (dk_at dksX4_init_15 12 rfl rfl)
theorem dX4_init_372 : decode cX4_init 372 = .ok (.castore, 1) := dk_85 (dk_at dksX4_init_15 14 rfl rfl)
theorem dX4_init_373 : decode cX4_init 373 = .ok (.dup, 1) := dk_89 (dk_at dksX4_init_15 15 rfl rfl)
theorem dX4_init_374 : decode cX4_init 374 = .ok (.bipush 50, 2) := dk_16 50 (dk_at dksX4_init_15 16 rfl rfl)
theorem dX4_init_376 : decode cX4_init 376 = .ok (.bipush 101, 2) := dk_16 101 (dk_at dksX4_init_15 18 rfl rfl)
theorem dX4_init_378 : decode cX4_init 378 = .ok (.castore, 1) := dk_85 (dk_at dksX4_init_15 20 rfl rfl)
theorem dX4_init_379 : decode cX4_init 379 = .ok (.dup, 1) := dk_89 (dk_at dksX4_init_15 21 rfl rfl)
theorem dX4_init_380 : decode cX4_init 380 = .ok (.bipush 51, 2) := dk_16 51 (dk_at dksX4_init_15 22 rfl rfl)
theorem dX4_init_382 : decode cX4_init 382 = .ok (.bipush 32, 2) := dk_16 32 (dk_at dksX4_init_16 0 rfl rfl)
theorem dX4_init_384 : decode cX4_init 384 = .ok (.castore, 1) := dk_85 (dk_at dksX4_init_16 2 rfl rfl)
theorem dX4_init_385 : decode cX4_init 385 = .ok (.dup, 1) := dk_89 (dk_at dksX4_init_16 3 rfl rfl)
theorem dX4_init_386 : decode cX4_init 386 = .ok (.bipush 52, 2) := dk_16 52 (dk_at dksX4_init_16 4 rfl rfl)
theorem dX4_init_388 : decode cX4_init 388 = .ok (.bipush 111, 2) := dk_16 111 (dk_at dksX4_init_16 6 rfl rfl)
theorem dX4_init_390 : decode cX4_init 390 = .ok (.castore, 1) := dk_85 (dk_at dksX4_init_16 8 rfl rfl)
theorem dX4_init_391 : decode cX4_init 391 = .ok (.dup, 1) := dk_89 (dk_at dksX4_init_16 9 rfl rfl)
theorem dX4_init_392 : decode cX4_init 392 = .ok (.bipush 53, 2) := dk_16 53 (dk_at dksX4_init_16 10 rfl rfl)
theorem dX4_init_394 : decode cX4_init 394 = .ok (.bipush 114, 2) := dk_16 114 (dk_at dksX4_init_16 12 rfl rfl)
theorem dX4_init_396 : decode cX4_init 396 = .ok (.castore, 1) := dk_85 (dk_at dksX4_init_16 14 rfl rfl)
theorem dX4_init_397 : decode cX4_init 397 = .ok (.dup, 1) := dk_89 (dk_at dksX4_init_16 15 rfl rfl)
theorem dX4_init_398 : decode cX4_init 398 = .ok (.bipush 54, 2) := dk_16 54 (dk_at dksX4_init_16 16 rfl rfl)
theorem dX4_init_400 : decode cX4_init 400 = .ok (.bipush 100, 2) := dk_16 100 (dk_at dksX4_init_16 18 rfl rfl)
theorem dX4_init_402 : decode cX4_init 402 = .ok (.castore, 1) := dk_85 (dk_at dksX4_init_16 20 rfl rfl)
theorem dX4_init_403 : decode cX4_init 403 = .ok (.dup, 1) := dk_89 (dk_at dksX4_init_16 21 rfl rfl)
theorem dX4_init_404 : decode cX4_init 404 = .ok (.bipush 55, 2) := dk_16 55 (dk_at dksX4_init_16 22 rfl rfl)
theorem dX4_init_406 : decode cX4_init 406 = .ok (.bipush 101, 2) := dk_16 101 (dk_at dksX4_init_17 0 rfl rfl)
theorem dX4_init_408 : decode cX4_init 408 = .ok (.castore, 1) := dk_85 (dk_at dksX4_init_17 2 rfl rfl)
theorem dX4_init_409 : decode cX4_init 409 = .ok (.dup, 1) := dk_89 (dk_at dksX4_init_17 3 rfl rfl)
theorem dX4_init_410 : decode cX4_init 410 = .ok (.bipush 56, 2) := dk_16 56 (dk_at dksX4_init_17 4 rfl rfl)
theorem dX4_init_412 : decode cX4_init 412 = .ok (.bipush 114, 2) := dk_16 114 (dk_at dksX4_init_17 6 rfl rfl)
theorem dX4_init_414 : decode cX4_init 414 = .ok (.castore, 1) := dk_85 (dk_at dksX4_init_17 8 rfl rfl)
theorem dX4_init_415 : decode cX4_init 415 = .ok (.dup, 1) := dk_89 (dk_at dksX4_init_17 9 rfl rfl)
theorem dX4_init_416 : decode cX4_init 416 = .ok (.bipush 57, 2) := dk_16 57 (dk_at dksX4_init_17 10 rfl rfl)
theorem dX4_init_418 : decode cX4_init 418 = .ok (.bipush 32, 2) := dk_16 32 (dk_at dksX4_init_17 12 rfl rfl)
theorem dX4_init_420 : decode cX4_init 420 = .ok (.castore, 1) := dk_85 (dk_at dksX4_init_17 14 rfl rfl)
theorem dX4_init_421 : decode cX4_init 421 = .ok (.dup, 1) := dk_89 (dk_at dksX4_init_17 15 rfl rfl)
theorem dX4_init_422 : decode cX4_init 422 = .ok (.bipush 58, 2) := dk_16 58 (dk_at dksX4_init_17 16 rfl rfl)
theorem dX4_init_424 : decode cX4_init 424 = .ok (.bipush 100, 2) := dk_16 100 (dk_at dksX4_init_17 18 rfl rfl)
theorem dX4_init_426 : decode cX4_init 426 = .ok (.castore, 1) := dk_85 (dk_at dksX4_init_17 20 rfl rfl)
theorem dX4_init_427 : decode cX4_init 427 = .ok (.dup, 1) := dk_89 (dk_at dksX4_init_17 21 rfl rfl)
theorem dX4_init_428 : decode cX4_init 428 = .ok (.bipush 59, 2) := dk_16 59 (dk_at dksX4_init_17 22 rfl rfl)
theorem dX4_init_430 : decode cX4_init 430 = .ok (.bipush 101, 2) := dk_16 101 (dk_at dksX4_init_18 0 rfl rfl)
theorem dX4_init_432 : decode cX4_init 432 = .ok (.castore, 1) := dk_85 (dk_at dksX4_init_18 2 rfl rfl)
theorem dX4_init_433 : decode cX4_init 433 = .ok (.dup, 1) := dk_89 (dk_at dksX4_init_18 3 rfl rfl)
theorem dX4_init_434 : decode cX4_init 434 = .ok (.bipush 60, 2) := dk_16 60 (dk_at dksX4_init_18 4 rfl rfl)
theorem dX4_init_436 : decode cX4_init 436 = .ok (.bipush 108, 2) := dk_16 108 (dk_at dksX4_init_18 6 rfl rfl)
theorem dX4_init_438 : decode cX4_init 438 = .ok (.castore, 1) := dk_85 (dk_at dksX4_init_18 8 rfl rfl)
theorem dX4_init_439 : decode cX4_init 439 = .ok (.dup, 1) := dk_89 (dk_at dksX4_init_18 9 rfl rfl)
theorem dX4_init_440 : decode cX4_init 440 = .ok (.bipush 61, 2) := dk_16 61 (dk_at dksX4_init_18 10 rfl rfl)
theorem dX4_init_442 : decode cX4_init 442 = .ok (.bipush 105, 2) := dk_16 105 (dk_at dksX4_init_18 12 rfl rfl)
theorem dX4_init_444 : decode cX4_init 444 = .ok (.castore, 1) := dk_85 (dk_at dksX4_init_18 14 rfl rfl)
theorem dX4_init_445 : decode cX4_init 445 = .ok (.dup, 1) := dk_89 (dk_at dksX4_init_18 15 rfl rfl)
theorem dX4_init_446 : decode cX4_init 446 = .ok (.bipush 62, 2) := dk_16 62 (dk_at dksX4_init_18 16 rfl rfl)
theorem dX4_init_448 : decode cX4_init 448 = .ok (.bipush 118, 2) := dk_16 118 (dk_at dksX4_init_18 18 rfl rfl)
theorem dX4_init_450 : decode cX4_init 450 = .ok (.castore, 1) := dk_85 (dk_at dksX4_init_18 20 rfl rfl)
theorem dX4_init_451 : decode cX4_init 451 = .ok (.dup, 1) := dk_89 (dk_at dksX4_init_18 21 rfl rfl)
theorem dX4_init_452 : decode cX4_init 452 = .ok (.bipush 63, 2) := dk_16 63 (dk_at dksX4_init_18 22 rfl rfl)
theorem dX4_init_454 : decode cX4_init 454 = .ok (.bipush 101, 2) := dk_16 101 (dk_at dksX4_init_19 0 rfl rfl)
theorem dX4_init_456 : decode cX4_init 456 = .ok (.castore, 1) := dk_85 (dk_at dksX4_init_19 2 rfl rfl)
theorem dX4_init_457 : decode cX4_init 457 = .ok (.dup, 1) := dk_89 (dk_at dksX4_init_19 3 rfl rfl)
theorem dX4_init_458 : decode cX4_init 458 = .ok (.bipush 64, 2) := dk_16 64 (dk_at dksX4_init_19 4 rfl rfl)
theorem dX4_init_460 : decode cX4_init 460 = .ok (.bipush 114, 2) := dk_16 114 (dk_at dksX4_init_19 6 rfl rfl)
theorem dX4_init_462 : decode cX4_init 462 = .ok (.castore, 1) := dk_85 (dk_at dksX4_init_19 8 rfl rfl)
theorem dX4_init_463 : decode cX4_init 463 = .ok (.dup, 1) := dk_89 (dk_at dksX4_init_19 9 rfl rfl)
theorem dX4_init_464 : decode cX4_init 464 = .ok (.bipush 65, 2) := dk_16 65 (dk_at dksX4_init_19 10 rfl rfl)
theorem dX4_init_466 : decode cX4_init 466 = .ok (.bipush 32, 2) := dk_16 32 (dk_at dksX4_init_19 12 rfl rfl)
theorem dX4_init_468 : decode cX4_init 468 = .ok (.castore, 1) := dk_85 (dk_at dksX4_init_19 14 rfl rfl)
theorem dX4_init_469 : decode cX4_init 469 = .ok (.putfield 38, 3) := dk_181 0 38 (dk_at dksX4_init_19 15 rfl rfl)
theorem dX4_init_472 : decode cX4_init 472 = .ok (.aload_n 0, 1) := dk_42 (dk_at dksX4_init_19 18 rfl rfl)
theorem dX4_init_473 : decode cX4_init 473 = .ok (.bipush 12, 2) := dk_16 12 (dk_at dksX4_init_19 19 rfl rfl)
theorem dX4_init_475 : decode cX4_init 475 = .ok (.newarray .int, 2) := dk_188_10 (dk_at dksX4_init_19 21 rfl rfl)
theorem dX4_init_477 : decode cX4_init 477 = .ok (.dup, 1) := dk_89 (dk_at dksX4_init_19 23 rfl rfl)
theorem dX4_init_478 : decode cX4_init 478 = .ok (.iconst 0, 1) := dk_3 (dk_at dksX4_init_20 0 rfl rfl)
theorem dX4_init_479 : decode cX4_init 479 = .ok (.iconst 0, 1) := dk_3 (dk_at dksX4_init_20 1 rfl rfl)
theorem dX4_init_480 : decode cX4_init 480 = .ok (.iastore, 1) := dk_79 (dk_at dksX4_init_20 2 rfl rfl)
theorem dX4_init_481 : decode cX4_init 481 = .ok (.dup, 1) := dk_89 (dk_at dksX4_init_20 3 rfl rfl)
theorem dX4_init_482 : decode cX4_init 482 = .ok (.iconst 1, 1) := dk_4 (dk_at dksX4_init_20 4 rfl rfl)
theorem dX4_init_483 : decode cX4_init 483 = .ok (.iconst 4, 1) := dk_7 (dk_at dksX4_init_20 5 rfl rfl)
theorem dX4_init_484 : decode cX4_init 484 = .ok (.iastore, 1) := dk_79 (dk_at dksX4_init_20 6 rfl rfl)
theorem dX4_init_485 : decode cX4_init 485 = .ok (.dup, 1) := dk_89 (dk_at dksX4_init_20 7 rfl rfl)
theorem dX4_init_486 : decode cX4_init 486 = .ok (.iconst 2, 1) := dk_5 (dk_at dksX4_init_20 8 rfl rfl)
theorem dX4_init_487 : decode cX4_init 487 = .ok (.bipush 10, 2) := dk_16 10 (dk_at dksX4_init_20 9 rfl rfl)
theorem dX4_init_489 : decode cX4_init 489 = .ok (.iastore, 1) := dk_79 (dk_at dksX4_init_20 11 rfl rfl)
theorem dX4_init_490 : decode cX4_init 490 = .ok (.dup, 1) := dk_89 (dk_at dksX4_init_20 12 rfl rfl)
theorem dX4_init_491 : decode cX4_init 491 = .ok (.iconst 3, 1) := dk_6 (dk_at dksX4_init_20 13 rfl rfl)
theorem dX4_init_492 : decode cX4_init 492 = .ok (.bipush 17, 2) := dk_16 17 (dk_at dksX4_init_20 14 rfl rfl)
theorem dX4_init_494 : decode cX4_init 494 = .ok (.iastore, 1) := dk_79 (dk_at dksX4_init_20 16 rfl rfl)
theorem dX4_init_495 : decode cX4_init 495 = .ok (.dup, 1) := dk_89 (dk_at dksX4_init_20 17 rfl rfl)
theorem dX4_init_496 : decode cX4_init 496 = .ok (.iconst 4, 1) := dk_7 (dk_at dksX4_init_20 18 rfl rfl)
theorem dX4_init_497 : decode cX4_init 497 = .ok (.bipush 23, 2) := dk_16 23 (dk_at dksX4_init_20 19 rfl rfl)
theorem dX4_init_499 : decode cX4_init 499 = .ok (.iastore, 1) := dk_79 (dk_at dksX4_init_20 21 rfl rfl)
theorem dX4_init_500 : decode cX4_init 500 = .ok (.dup, 1) := dk_89 (dk_at dksX4_init_20 22 rfl rfl)
theorem dX4_init_501 : decode cX4_init 501 = .ok (.iconst 5, 1) := dk_8 (dk_at dksX4_init_20 23 rfl rfl)
theorem dX4_init_502 : decode cX4_init 502 = .ok (.bipush 30, 2) := dk_16 30 (dk_at dksX4_init_21 0 rfl rfl)
theorem dX4_init_504 : decode cX4_init 504 = .ok (.iastore, 1) := dk_79 (dk_at dksX4_init_21 2 rfl rfl)
theorem dX4_init_505 : decode cX4_init 505 = .ok (.dup, 1) := dk_89 (dk_at dksX4_init_21 3 rfl rfl)
theorem dX4_init_506 : decode cX4_init 506 = .ok (.bipush 6, 2) := dk_16 6 (dk_at dksX4_init_21 4 rfl rfl)
theorem dX4_init_508 : decode cX4_init 508 = .ok (.bipush 36, 2) := dk_16 36 (dk_at dksX4_init_21 6 rfl rfl)
theorem dX4_init_510 : decode cX4_init 510 = .ok (.iastore, 1) := dk_79 (dk_at dksX4_init_21 8 rfl rfl)
theorem dX4_init_511 : decode cX4_init 511 = .ok (.dup, 1) := dk_89 (dk_at dksX4_init_21 9 rfl rfl)
theorem dX4_init_512 : decode cX4_init 512 = .ok (.bipush 7, 2) := dk_16 7 (dk_at dksX4_init_21 10 rfl rfl)
theorem dX4_init_514 : decode cX4_init 514 = .ok (.bipush 41, 2) := dk_16 41 (dk_at dksX4_init_21 12 rfl rfl)
theorem dX4_init_516 : decode cX4_init 516 = .ok (.iastore, 1) := dk_79 (dk_at dksX4_init_21 14 rfl rfl)
theorem dX4_init_517 : decode cX4_init 517 = .ok (.dup, 1) := dk_89 (dk_at dksX4_init_21 15 rfl rfl)
theorem dX4_init_518 : decode cX4_init 518 = .ok (.bipush 8, 2) := dk_16 8 (dk_at dksX4_init_21 16 rfl rfl)
theorem dX4_init_520 : decode cX4_init 520 = .ok (.bipush 47, 2) := dk_16 47 (dk_at dksX4_init_21 18 rfl rfl)
theorem dX4_init_522 : decode cX4_init 522 = .ok (.iastore, 1) := dk_79 (dk_at dksX4_init_21 20 rfl rfl)
theorem dX4_init_523 : decode cX4_init 523 = .ok (.dup, 1) := dk_89 (dk_at dksX4_init_21 21 rfl rfl)
theorem dX4_init_524 : decode cX4_init 524 = .ok (.bipush 9, 2) := dk_16 9 (dk_at dksX4_init_21 22 rfl rfl)
theorem dX4_init_526 : decode cX4_init 526 = .ok (.bipush 52, 2) := dk_16 52 (dk_at dksX4_init_22 0 rfl rfl)
theorem dX4_init_528 : decode cX4_init 528 = .ok (.iastore, 1) := dk_79 (dk_at dksX4_init_22 2 rfl rfl)
theorem dX4_init_529 : decode cX4_init 529 = .ok (.dup, 1) := dk_89 (dk_at dksX4_init_22 3 rfl rfl)
theorem dX4_init_530 : decode cX4_init 530 = .ok (.bipush 10, 2) := dk_16 10 (dk_at dksX4_init_22 4 rfl rfl)
theorem dX4_init_532 : decode cX4_init 532 = .ok (.bipush 58, 2) := dk_16 58 (dk_at dksX4_init_22 6 rfl rfl)
theorem dX4_init_534 : decode cX4_init 534 = .ok (.iastore, 1) := dk_79 (dk_at dksX4_init_22 8 rfl rfl)
theorem dX4_init_535 : decode cX4_init 535 = .ok (.dup, 1) := dk_89 (dk_at dksX4_init_22 9 rfl rfl)
theorem dX4_init_536 : decode cX4_init 536 = .ok (.bipush 11, 2) := dk_16 11 (dk_at dksX4_init_22 10 rfl rfl)
theorem dX4_init_538 : decode cX4_init 538 = .ok (.bipush 66, 2) := dk_16 66 (dk_at dksX4_init_22 12 rfl rfl)
theorem dX4_init_540 : decode cX4_init 540 = .ok (.iastore, 1) := dk_79 (dk_at dksX4_init_22 14 rfl rfl)
theorem dX4_init_541 : decode cX4_init 541 = .ok (.putfield 42, 3) := dk_181 0 42 (dk_at dksX4_init_22 15 rfl rfl)
theorem dX4_init_544 : decode cX4_init 544 = .ok (.aload_n 0, 1) := dk_42 (dk_at dksX4_init_22 18 rfl rfl)
theorem dX4_init_545 : decode cX4_init 545 = .ok (.sipush 244, 3) := dk_17 0 244 (dk_at dksX4_init_22 19 rfl rfl)
theorem dX4_init_548 : decode cX4_init 548 = .ok (.newarray .int, 2) := dk_188_10 (dk_at dksX4_init_22 22 rfl rfl)
theorem dX4_init_550 : decode cX4_init 550 = .ok (.putfield 45, 3) := dk_181 0 45 (dk_at dksX4_init_23 0 rfl rfl)
theorem dX4_init_553 : decode cX4_init 553 = .ok (.iconst 0, 1) := dk_3 (dk_at dksX4_init_23 3 rfl rfl)
theorem dX4_init_554 : decode cX4_init 554 = .ok (.istore_n 1, 1) := dk_60 (dk_at dksX4_init_23 4 rfl rfl)
theorem dX4_init_555 : decode cX4_init 555 = .ok (.iload_n 1, 1) := dk_27 (dk_at dksX4_init_23 5 rfl rfl)
theorem dX4_init_556 : decode cX4_init 556 = .ok (.bipush 12, 2) := dk_16 12 (dk_at dksX4_init_23 6 rfl rfl)
theorem dX4_init_558 : decode cX4_init 558 = .ok (.if_icmp .ge 35, 3) := dk_162 0 35 (dk_at dksX4_init_23 8 rfl rfl)
theorem dX4_init_561 : decode cX4_init 561 = .ok (.aload_n 0, 1) := dk_42 (dk_at dksX4_init_23 11 rfl rfl)
theorem dX4_init_562 : decode cX4_init 562 = .ok (.getfield 9, 3) := dk_180 0 9 (dk_at dksX4_init_23 12 rfl rfl)
theorem dX4_init_565 : decode cX4_init 565 = .ok (.iconst 5, 1) := dk_8 (dk_at dksX4_init_23 15 rfl rfl)
theorem dX4_init_566 : decode cX4_init 566 = .ok (.iload_n 1, 1) := dk_27 (dk_at dksX4_init_23 16 rfl rfl)
theorem dX4_init_567 : decode cX4_init 567 = .ok (.iadd, 1) := dk_96 (dk_at dksX4_init_23 17 rfl rfl)
theorem dX4_init_568 : decode cX4_init 568 = .ok (.iload_n 1, 1) := dk_27 (dk_at dksX4_init_23 18 rfl rfl)
theorem dX4_init_569 : decode cX4_init 569 = .ok (.bipush 6, 2) := dk_16 6 (dk_at dksX4_init_23 19 rfl rfl)
theorem dX4_init_571 : decode cX4_init 571 = .ok (.if_icmp .gt 9, 3) := dk_163 0 9 (dk_at dksX4_init_23 21 rfl rfl)
theorem dX4_init_574 : decode cX4_init 574 = .ok (.iconst 4, 1) := dk_7 (dk_at dksX4_init_24 0 rfl rfl)
theorem dX4_init_575 : decode cX4_init 575 = .ok (.iload_n 1, 1) := dk_27 (dk_at dksX4_init_24 1 rfl rfl)
theorem dX4_init_576 : decode cX4_init 576 = .ok (.imul, 1) := dk_104 (dk_at dksX4_init_24 2 rfl rfl)
theorem dX4_init_577 : decode cX4_init 577 = .ok (.goto 9, 3) := dk_167 0 9 (dk_at dksX4_init_24 3 rfl rfl)
theorem dX4_init_580 : decode cX4_init 580 = .ok (.iconst 4, 1) := dk_7 (dk_at dksX4_init_24 6 rfl rfl)
theorem dX4_init_581 : decode cX4_init 581 = .ok (.bipush 12, 2) := dk_16 12 (dk_at dksX4_init_24 7 rfl rfl)
theorem dX4_init_583 : decode cX4_init 583 = .ok (.iload_n 1, 1) := dk_27 (dk_at dksX4_init_24 9 rfl rfl)
theorem dX4_init_584 : decode cX4_init 584 = .ok (.isub, 1) := dk_100 (dk_at dksX4_init_24 10 rfl rfl)
theorem dX4_init_585 : decode cX4_init 585 = .ok (.imul, 1) := dk_104 (dk_at dksX4_init_24 11 rfl rfl)
theorem dX4_init_586 : decode cX4_init 586 = .ok (.iastore, 1) := dk_79 (dk_at dksX4_init_24 12 rfl rfl)
theorem dX4_init_587 : decode cX4_init 587 = .ok (.iinc 1 1, 3) := dk_132 1 1 (dk_at dksX4_init_24 13 rfl rfl)
theorem dX4_init_590 : decode cX4_init 590 = .ok (.goto (-35), 3) := dk_167 255 221 (dk_at dksX4_init_24 16 rfl rfl)
theorem dX4_init_593 : decode cX4_init 593 = .ok (.iconst 0, 1) := dk_3 (dk_at dksX4_init_24 19 rfl rfl)
theorem dX4_init_594 : decode cX4_init 594 = .ok (.istore_n 1, 1) := dk_60 (dk_at dksX4_init_24 20 rfl rfl)
theorem dX4_init_595 : decode cX4_init 595 = .ok (.iload_n 1, 1) := dk_27 (dk_at dksX4_init_24 21 rfl rfl)
theorem dX4_init_596 : decode cX4_init 596 = .ok (.iconst 4, 1) := dk_7 (dk_at dksX4_init_24 22 rfl rfl)
theorem dX4_init_597 : decode cX4_init 597 = .ok (.if_icmp .ge 23, 3) := dk_162 0 23 (dk_at dksX4_init_25 0 rfl rfl)
theorem dX4_init_600 : decode cX4_init 600 = .ok (.aload_n 0, 1) := dk_42 (dk_at dksX4_init_25 3 rfl rfl)
theorem dX4_init_601 : decode cX4_init 601 = .ok (.getfield 9, 3) := dk_180 0 9 (dk_at dksX4_init_25 4 rfl rfl)
theorem dX4_init_604 : decode cX4_init 604 = .ok (.bipush 17, 2) := dk_16 17 (dk_at dksX4_init_25 7 rfl rfl)
theorem dX4_init_606 : decode cX4_init 606 = .ok (.iload_n 1, 1) := dk_27 (dk_at dksX4_init_25 9 rfl rfl)
theorem dX4_init_607 : decode cX4_init 607 = .ok (.iadd, 1) := dk_96 (dk_at dksX4_init_25 10 rfl rfl)
theorem dX4_init_608 : decode cX4_init 608 = .ok (.iconst 2, 1) := dk_5 (dk_at dksX4_init_25 11 rfl rfl)
theorem dX4_init_609 : decode cX4_init 609 = .ok (.iload_n 1, 1) := dk_27 (dk_at dksX4_init_25 12 rfl rfl)
theorem dX4_init_610 : decode cX4_init 610 = .ok (.imul, 1) := dk_104 (dk_at dksX4_init_25 13 rfl rfl)
theorem dX4_init_611 : decode cX4_init 611 = .ok (.iconst 2, 1) := dk_5 (dk_at dksX4_init_25 14 rfl rfl)
theorem dX4_init_612 : decode cX4_init 612 = .ok (.iadd, 1) := dk_96 (dk_at dksX4_init_25 15 rfl rfl)
theorem dX4_init_613 : decode cX4_init 613 = .ok (.iastore, 1) := dk_79 (dk_at dksX4_init_25 16 rfl rfl)
theorem dX4_init_614 : decode cX4_init 614 = .ok (.iinc 1 1, 3) := dk_132 1 1 (dk_at dksX4_init_25 17 rfl rfl)
theorem dX4_init_617 : decode cX4_init 617 = .ok (.goto (-22), 3) := dk_167 255 234 (dk_at dksX4_init_25 20 rfl rfl)
theorem dX4_init_620 : decode cX4_init 620 = .ok (.return_, 1) := dk_177 (dk_at dksX4_init_25 23 rfl rfl)
theorem dX4_thrown_0 : decode cX4_thrown 0 = .ok (.aload_n 0, 1) := by decide +kernel
theorem dX4_thrown_1 : decode cX4_thrown 1 = .ok (.getfield 48, 3) := by decide +kernel
theorem dX4_thrown_4 : decode cX4_thrown 4 = .ok (.ireturn, 1) := by decide +kernel
def dkwX4_beginHull_0 : List UInt8 := [42, 182, 0, 91, 42, 42, 182, 0, 94, 182, 0, 98, 172]
abbrev dktX4_beginHull_0 : List UInt8 := dkwX4_beginHull_0 ++ []
theorem dksX4_beginHull_0 : cX4_beginHull.data.toList.drop 0 = dktX4_beginHull_0 := by decide +kernel
theorem dX4_beginHull_0 : decode cX4_beginHull 0 = .ok (.aload_n 0, 1) := dk_42 (dk_at dksX4_beginHull_0 0 rfl rfl)
theorem dX4_beginHull_1 : decode cX4_beginHull 1 = .ok (.invokevirtual 91, 3) := dk_182 0 91 (dk_at dksX4_beginHull_0 1 rfl rfl)
theorem dX4_beginHull_4 : decode cX4_beginHull 4 = .ok (.aload_n 0, 1) := dk_42 (dk_at dksX4_beginHull_0 4 rfl rfl)
theorem dX4_beginHull_5 : decode cX4_beginHull 5 = .ok (.aload_n 0, 1) := dk_42 (dk_at dksX4_beginHull_0 5 rfl rfl)
theorem dX4_beginHull_6 : decode cX4_beginHull 6 = .ok (.invokevirtual 94, 3) := dk_182 0 94 (dk_at dksX4_beginHull_0 6 rfl rfl)
theorem dX4_beginHull_9 : decode cX4_beginHull 9 = .ok (.invokevirtual 98, 3) := dk_182 0 98 (dk_at dksX4_beginHull_0 9 rfl rfl)
theorem dX4_beginHull_12 : decode cX4_beginHull 12 = .ok (.ireturn, 1) := dk_172 (dk_at dksX4_beginHull_0 12 rfl rfl)
def dkwX4_starts_1 : List UInt8 := [46, 79, 132, 1, 1, 167, 255, 234, 177]
abbrev dktX4_starts_1 : List UInt8 := dkwX4_starts_1 ++ []
def dkwX4_starts_0 : List UInt8 := [42, 3, 181, 0, 48, 3, 60, 27, 17, 0, 213, 162, 0, 21, 42, 180, 0, 13, 27, 42, 180, 0, 9, 27]
abbrev dktX4_starts_0 : List UInt8 := dkwX4_starts_0 ++ dktX4_starts_1
theorem dksX4_starts_0 : cX4_starts.data.toList.drop 0 = dktX4_starts_0 := by decide +kernel
theorem dksX4_starts_1 : cX4_starts.data.toList.drop 24 = dktX4_starts_1 := dk_seg dksX4_starts_0 24 rfl rfl
theorem dX4_starts_0 : decode cX4_starts 0 = .ok (.aload_n 0, 1) := dk_42 (dk_at dksX4_starts_0 0 rfl rfl)
theorem dX4_starts_1 : decode cX4_starts 1 = .ok (.iconst 0, 1) := dk_3 (dk_at dksX4_starts_0 1 rfl rfl)
theorem dX4_starts_2 : decode cX4_starts 2 = .ok (.putfield 48, 3) := dk_181 0 48 (dk_at dksX4_starts_0 2 rfl rfl)
theorem dX4_starts_5 : decode cX4_starts 5 = .ok (.iconst 0, 1) := dk_3 (dk_at dksX4_starts_0 5 rfl rfl)
theorem dX4_starts_6 : decode cX4_starts 6 = .ok (.istore_n 1, 1) := dk_60 (dk_at dksX4_starts_0 6 rfl rfl)
theorem dX4_starts_7 : decode cX4_starts 7 = .ok (.iload_n 1, 1) := dk_27 (dk_at dksX4_starts_0 7 rfl rfl)
theorem dX4_starts_8 : decode cX4_starts 8 = .ok (.sipush 213, 3) := dk_17 0 213 (dk_at dksX4_starts_0 8 rfl rfl)
theorem dX4_starts_11 : decode cX4_starts 11 = .ok (.if_icmp .ge 21, 3) := dk_162 0 21 (dk_at dksX4_starts_0 11 rfl rfl)
theorem dX4_starts_14 : decode cX4_starts 14 = .ok (.aload_n 0, 1) := dk_42 (dk_at dksX4_starts_0 14 rfl rfl)
theorem dX4_starts_15 : decode cX4_starts 15 = .ok (.getfield 13, 3) := dk_180 0 13 (dk_at dksX4_starts_0 15 rfl rfl)
theorem dX4_starts_18 : decode cX4_starts 18 = .ok (.iload_n 1, 1) := dk_27 (dk_at dksX4_starts_0 18 rfl rfl)
theorem dX4_starts_19 : decode cX4_starts 19 = .ok (.aload_n 0, 1) := dk_42 (dk_at dksX4_starts_0 19 rfl rfl)
theorem dX4_starts_20 : decode cX4_starts 20 = .ok (.getfield 9, 3) := dk_180 0 9 (dk_at dksX4_starts_0 20 rfl rfl)
theorem dX4_starts_23 : decode cX4_starts 23 = .ok (.iload_n 1, 1) := dk_27 (dk_at dksX4_starts_0 23 rfl rfl)
theorem dX4_starts_24 : decode cX4_starts 24 = .ok (.iaload, 1) := dk_46 (dk_at dksX4_starts_1 0 rfl rfl)
theorem dX4_starts_25 : decode cX4_starts 25 = .ok (.iastore, 1) := dk_79 (dk_at dksX4_starts_1 1 rfl rfl)
theorem dX4_starts_26 : decode cX4_starts 26 = .ok (.iinc 1 1, 3) := dk_132 1 1 (dk_at dksX4_starts_1 2 rfl rfl)
theorem dX4_starts_29 : decode cX4_starts 29 = .ok (.goto (-22), 3) := dk_167 255 234 (dk_at dksX4_starts_1 5 rfl rfl)
theorem dX4_starts_32 : decode cX4_starts 32 = .ok (.return_, 1) := dk_177 (dk_at dksX4_starts_1 8 rfl rfl)
def dkwX4_hullIt_1 : List UInt8 := [4, 96, 79, 42, 180, 0, 9, 3, 46, 4, 100, 172]
abbrev dktX4_hullIt_1 : List UInt8 := dkwX4_hullIt_1 ++ []
def dkwX4_hullIt_0 : List UInt8 := [42, 180, 0, 9, 3, 46, 16, 6, 160, 0, 9, 42, 4, 182, 0, 88, 172, 42, 180, 0, 9, 3, 92, 46]
abbrev dktX4_hullIt_0 : List UInt8 := dkwX4_hullIt_0 ++ dktX4_hullIt_1
theorem dksX4_hullIt_0 : cX4_hullIt.data.toList.drop 0 = dktX4_hullIt_0 := by decide +kernel
theorem dksX4_hullIt_1 : cX4_hullIt.data.toList.drop 24 = dktX4_hullIt_1 := dk_seg dksX4_hullIt_0 24 rfl rfl
theorem dX4_hullIt_0 : decode cX4_hullIt 0 = .ok (.aload_n 0, 1) := dk_42 (dk_at dksX4_hullIt_0 0 rfl rfl)
theorem dX4_hullIt_1 : decode cX4_hullIt 1 = .ok (.getfield 9, 3) := dk_180 0 9 (dk_at dksX4_hullIt_0 1 rfl rfl)
theorem dX4_hullIt_4 : decode cX4_hullIt 4 = .ok (.iconst 0, 1) := dk_3 (dk_at dksX4_hullIt_0 4 rfl rfl)
theorem dX4_hullIt_5 : decode cX4_hullIt 5 = .ok (.iaload, 1) := dk_46 (dk_at dksX4_hullIt_0 5 rfl rfl)
theorem dX4_hullIt_6 : decode cX4_hullIt 6 = .ok (.bipush 6, 2) := dk_16 6 (dk_at dksX4_hullIt_0 6 rfl rfl)
theorem dX4_hullIt_8 : decode cX4_hullIt 8 = .ok (.if_icmp .ne 9, 3) := dk_160 0 9 (dk_at dksX4_hullIt_0 8 rfl rfl)
theorem dX4_hullIt_11 : decode cX4_hullIt 11 = .ok (.aload_n 0, 1) := dk_42 (dk_at dksX4_hullIt_0 11 rfl rfl)
theorem dX4_hullIt_12 : decode cX4_hullIt 12 = .ok (.iconst 1, 1) := dk_4 (dk_at dksX4_hullIt_0 12 rfl rfl)
theorem dX4_hullIt_13 : decode cX4_hullIt 13 = .ok (.invokevirtual 88, 3) := dk_182 0 88 (dk_at dksX4_hullIt_0 13 rfl rfl)
theorem dX4_hullIt_16 : decode cX4_hullIt 16 = .ok (.ireturn, 1) := dk_172 (dk_at dksX4_hullIt_0 16 rfl rfl)
theorem dX4_hullIt_17 : decode cX4_hullIt 17 = .ok (.aload_n 0, 1) := dk_42 (dk_at dksX4_hullIt_0 17 rfl rfl)
theorem dX4_hullIt_18 : decode cX4_hullIt 18 = .ok (.getfield 9, 3) := dk_180 0 9 (dk_at dksX4_hullIt_0 18 rfl rfl)
theorem dX4_hullIt_21 : decode cX4_hullIt 21 = .ok (.iconst 0, 1) := dk_3 (dk_at dksX4_hullIt_0 21 rfl rfl)
theorem dX4_hullIt_22 : decode cX4_hullIt 22 = .ok (.dup2, 1) := dk_92 (dk_at dksX4_hullIt_0 22 rfl rfl)
theorem dX4_hullIt_23 : decode cX4_hullIt 23 = .ok (.iaload, 1) := dk_46 (dk_at dksX4_hullIt_0 23 rfl rfl)
theorem dX4_hullIt_24 : decode cX4_hullIt 24 = .ok (.iconst 1, 1) := dk_4 (dk_at dksX4_hullIt_1 0 rfl rfl)
theorem dX4_hullIt_25 : decode cX4_hullIt 25 = .ok (.iadd, 1) := dk_96 (dk_at dksX4_hullIt_1 1 rfl rfl)
theorem dX4_hullIt_26 : decode cX4_hullIt 26 = .ok (.iastore, 1) := dk_79 (dk_at dksX4_hullIt_1 2 rfl rfl)
theorem dX4_hullIt_27 : decode cX4_hullIt 27 = .ok (.aload_n 0, 1) := dk_42 (dk_at dksX4_hullIt_1 3 rfl rfl)
theorem dX4_hullIt_28 : decode cX4_hullIt 28 = .ok (.getfield 9, 3) := dk_180 0 9 (dk_at dksX4_hullIt_1 4 rfl rfl)
theorem dX4_hullIt_31 : decode cX4_hullIt 31 = .ok (.iconst 0, 1) := dk_3 (dk_at dksX4_hullIt_1 7 rfl rfl)
theorem dX4_hullIt_32 : decode cX4_hullIt 32 = .ok (.iaload, 1) := dk_46 (dk_at dksX4_hullIt_1 8 rfl rfl)
theorem dX4_hullIt_33 : decode cX4_hullIt 33 = .ok (.iconst 1, 1) := dk_4 (dk_at dksX4_hullIt_1 9 rfl rfl)
theorem dX4_hullIt_34 : decode cX4_hullIt 34 = .ok (.isub, 1) := dk_100 (dk_at dksX4_hullIt_1 10 rfl rfl)
theorem dX4_hullIt_35 : decode cX4_hullIt 35 = .ok (.ireturn, 1) := dk_172 (dk_at dksX4_hullIt_1 11 rfl rfl)
def dkwX4_throwing_0 : List UInt8 := [42, 27, 181, 0, 48, 2, 172]
abbrev dktX4_throwing_0 : List UInt8 := dkwX4_throwing_0 ++ []
theorem dksX4_throwing_0 : cX4_throwing.data.toList.drop 0 = dktX4_throwing_0 := by decide +kernel
theorem dX4_throwing_0 : decode cX4_throwing 0 = .ok (.aload_n 0, 1) := dk_42 (dk_at dksX4_throwing_0 0 rfl rfl)
theorem dX4_throwing_1 : decode cX4_throwing 1 = .ok (.iload_n 1, 1) := dk_27 (dk_at dksX4_throwing_0 1 rfl rfl)
theorem dX4_throwing_2 : decode cX4_throwing 2 = .ok (.putfield 48, 3) := dk_181 0 48 (dk_at dksX4_throwing_0 2 rfl rfl)
theorem dX4_throwing_5 : decode cX4_throwing 5 = .ok (.iconst (-1), 1) := dk_2 (dk_at dksX4_throwing_0 5 rfl rfl)
theorem dX4_throwing_6 : decode cX4_throwing 6 = .ok (.ireturn, 1) := dk_172 (dk_at dksX4_throwing_0 6 rfl rfl)
def dkwX4_changed_4 : List UInt8 := [167, 255, 225, 42, 89, 180, 0, 51, 4, 96, 181, 0, 51, 27, 172]
abbrev dktX4_changed_4 : List UInt8 := dkwX4_changed_4 ++ []
def dkwX4_changed_3 : List UInt8 := [180, 0, 19, 17, 0, 213, 42, 180, 0, 51, 104, 28, 96, 42, 180, 0, 13, 28, 46, 79, 132, 2, 1]
abbrev dktX4_changed_3 : List UInt8 := dkwX4_changed_3 ++ dktX4_changed_4
def dkwX4_changed_2 : List UInt8 := [167, 255, 230, 42, 89, 180, 0, 51, 4, 100, 181, 0, 51, 3, 61, 28, 17, 0, 213, 162, 0, 30, 42]
abbrev dktX4_changed_2 : List UInt8 := dkwX4_changed_2 ++ dktX4_changed_3
def dkwX4_changed_1 : List UInt8 := [162, 0, 25, 42, 180, 0, 19, 28, 42, 180, 0, 19, 28, 17, 0, 213, 96, 46, 79, 132, 2, 1]
abbrev dktX4_changed_1 : List UInt8 := dkwX4_changed_1 ++ dktX4_changed_2
def dkwX4_changed_0 : List UInt8 := [42, 180, 0, 48, 158, 0, 5, 27, 172, 42, 180, 0, 51, 16, 8, 160, 0, 44, 3, 61, 28, 17, 5, 211]
abbrev dktX4_changed_0 : List UInt8 := dkwX4_changed_0 ++ dktX4_changed_1
theorem dksX4_changed_0 : cX4_changed.data.toList.drop 0 = dktX4_changed_0 := by decide +kernel
theorem dksX4_changed_1 : cX4_changed.data.toList.drop 24 = dktX4_changed_1 := dk_seg dksX4_changed_0 24 rfl rfl
theorem dksX4_changed_2 : cX4_changed.data.toList.drop 46 = dktX4_changed_2 := dk_seg dksX4_changed_1 22 rfl rfl
theorem dksX4_changed_3 : cX4_changed.data.toList.drop 69 = dktX4_changed_3 := dk_seg dksX4_changed_2 23 rfl rfl
theorem dksX4_changed_4 : cX4_changed.data.toList.drop 92 = dktX4_changed_4 := dk_seg dksX4_changed_3 23 rfl rfl
theorem dX4_changed_0 : decode cX4_changed 0 = .ok (.aload_n 0, 1) := dk_42 (dk_at dksX4_changed_0 0 rfl rfl)
theorem dX4_changed_1 : decode cX4_changed 1 = .ok (.getfield 48, 3) := dk_180 0 48 (dk_at dksX4_changed_0 1 rfl rfl)
theorem dX4_changed_4 : decode cX4_changed 4 = .ok (.ifCond .le 5, 3) := dk_158 0 5 (dk_at dksX4_changed_0 4 rfl rfl)
theorem dX4_changed_7 : decode cX4_changed 7 = .ok (.iload_n 1, 1) := dk_27 (dk_at dksX4_changed_0 7 rfl rfl)
theorem dX4_changed_8 : decode cX4_changed 8 = .ok (.ireturn, 1) := dk_172 (dk_at dksX4_changed_0 8 rfl rfl)
theorem dX4_changed_9 : decode cX4_changed 9 = .ok (.aload_n 0, 1) := dk_42 (dk_at dksX4_changed_0 9 rfl rfl)
theorem dX4_changed_10 : decode cX4_changed 10 = .ok (.getfield 51, 3) := dk_180 0 51 (dk_at dksX4_changed_0 10 rfl rfl)
theorem dX4_changed_13 : decode cX4_changed 13 = .ok (.bipush 8, 2) := dk_16 8 (dk_at dksX4_changed_0 13 rfl rfl)
theorem dX4_changed_15 : decode cX4_changed 15 = .ok (.if_icmp .ne 44, 3) := dk_160 0 44 (dk_at dksX4_changed_0 15 rfl rfl)
theorem dX4_changed_18 : decode cX4_changed 18 = .ok (.iconst 0, 1) := dk_3 (dk_at dksX4_changed_0 18 rfl rfl)
theorem dX4_changed_19 : decode cX4_changed 19 = .ok (.istore_n 2, 1) := dk_61 (dk_at dksX4_changed_0 19 rfl rfl)
theorem dX4_changed_20 : decode cX4_changed 20 = .ok (.iload_n 2, 1) := dk_28 (dk_at dksX4_changed_0 20 rfl rfl)
theorem dX4_changed_21 : decode cX4_changed 21 = .ok (.sipush 1491, 3) := dk_17 5 211 (dk_at dksX4_changed_0 21 rfl rfl)
theorem dX4_changed_24 : decode cX4_changed 24 = .ok (.if_icmp .ge 25, 3) := dk_162 0 25 (dk_at dksX4_changed_1 0 rfl rfl)
theorem dX4_changed_27 : decode cX4_changed 27 = .ok (.aload_n 0, 1) := dk_42 (dk_at dksX4_changed_1 3 rfl rfl)
theorem dX4_changed_28 : decode cX4_changed 28 = .ok (.getfield 19, 3) := dk_180 0 19 (dk_at dksX4_changed_1 4 rfl rfl)
theorem dX4_changed_31 : decode cX4_changed 31 = .ok (.iload_n 2, 1) := dk_28 (dk_at dksX4_changed_1 7 rfl rfl)
theorem dX4_changed_32 : decode cX4_changed 32 = .ok (.aload_n 0, 1) := dk_42 (dk_at dksX4_changed_1 8 rfl rfl)
theorem dX4_changed_33 : decode cX4_changed 33 = .ok (.getfield 19, 3) := dk_180 0 19 (dk_at dksX4_changed_1 9 rfl rfl)
theorem dX4_changed_36 : decode cX4_changed 36 = .ok (.iload_n 2, 1) := dk_28 (dk_at dksX4_changed_1 12 rfl rfl)
theorem dX4_changed_37 : decode cX4_changed 37 = .ok (.sipush 213, 3) := dk_17 0 213 (dk_at dksX4_changed_1 13 rfl rfl)
theorem dX4_changed_40 : decode cX4_changed 40 = .ok (.iadd, 1) := dk_96 (dk_at dksX4_changed_1 16 rfl rfl)
theorem dX4_changed_41 : decode cX4_changed 41 = .ok (.iaload, 1) := dk_46 (dk_at dksX4_changed_1 17 rfl rfl)
theorem dX4_changed_42 : decode cX4_changed 42 = .ok (.iastore, 1) := dk_79 (dk_at dksX4_changed_1 18 rfl rfl)
theorem dX4_changed_43 : decode cX4_changed 43 = .ok (.iinc 2 1, 3) := dk_132 2 1 (dk_at dksX4_changed_1 19 rfl rfl)
theorem dX4_changed_46 : decode cX4_changed 46 = .ok (.goto (-26), 3) := dk_167 255 230 (dk_at dksX4_changed_2 0 rfl rfl)
theorem dX4_changed_49 : decode cX4_changed 49 = .ok (.aload_n 0, 1) := dk_42 (dk_at dksX4_changed_2 3 rfl rfl)
theorem dX4_changed_50 : decode cX4_changed 50 = .ok (.dup, 1) := dk_89 (dk_at dksX4_changed_2 4 rfl rfl)
theorem dX4_changed_51 : decode cX4_changed 51 = .ok (.getfield 51, 3) := dk_180 0 51 (dk_at dksX4_changed_2 5 rfl rfl)
theorem dX4_changed_54 : decode cX4_changed 54 = .ok (.iconst 1, 1) := dk_4 (dk_at dksX4_changed_2 8 rfl rfl)
theorem dX4_changed_55 : decode cX4_changed 55 = .ok (.isub, 1) := dk_100 (dk_at dksX4_changed_2 9 rfl rfl)
theorem dX4_changed_56 : decode cX4_changed 56 = .ok (.putfield 51, 3) := dk_181 0 51 (dk_at dksX4_changed_2 10 rfl rfl)
theorem dX4_changed_59 : decode cX4_changed 59 = .ok (.iconst 0, 1) := dk_3 (dk_at dksX4_changed_2 13 rfl rfl)
theorem dX4_changed_60 : decode cX4_changed 60 = .ok (.istore_n 2, 1) := dk_61 (dk_at dksX4_changed_2 14 rfl rfl)
theorem dX4_changed_61 : decode cX4_changed 61 = .ok (.iload_n 2, 1) := dk_28 (dk_at dksX4_changed_2 15 rfl rfl)
theorem dX4_changed_62 : decode cX4_changed 62 = .ok (.sipush 213, 3) := dk_17 0 213 (dk_at dksX4_changed_2 16 rfl rfl)
theorem dX4_changed_65 : decode cX4_changed 65 = .ok (.if_icmp .ge 30, 3) := dk_162 0 30 (dk_at dksX4_changed_2 19 rfl rfl)
theorem dX4_changed_68 : decode cX4_changed 68 = .ok (.aload_n 0, 1) := dk_42 (dk_at dksX4_changed_2 22 rfl rfl)
theorem dX4_changed_69 : decode cX4_changed 69 = .ok (.getfield 19, 3) := dk_180 0 19 (dk_at dksX4_changed_3 0 rfl rfl)
theorem dX4_changed_72 : decode cX4_changed 72 = .ok (.sipush 213, 3) := dk_17 0 213 (dk_at dksX4_changed_3 3 rfl rfl)
theorem dX4_changed_75 : decode cX4_changed 75 = .ok (.aload_n 0, 1) := dk_42 (dk_at dksX4_changed_3 6 rfl rfl)
theorem dX4_changed_76 : decode cX4_changed 76 = .ok (.getfield 51, 3) := dk_180 0 51 (dk_at dksX4_changed_3 7 rfl rfl)
theorem dX4_changed_79 : decode cX4_changed 79 = .ok (.imul, 1) := dk_104 (dk_at dksX4_changed_3 10 rfl rfl)
theorem dX4_changed_80 : decode cX4_changed 80 = .ok (.iload_n 2, 1) := dk_28 (dk_at dksX4_changed_3 11 rfl rfl)
theorem dX4_changed_81 : decode cX4_changed 81 = .ok (.iadd, 1) := dk_96 (dk_at dksX4_changed_3 12 rfl rfl)
theorem dX4_changed_82 : decode cX4_changed 82 = .ok (.aload_n 0, 1) := dk_42 (dk_at dksX4_changed_3 13 rfl rfl)
theorem dX4_changed_83 : decode cX4_changed 83 = .ok (.getfield 13, 3) := dk_180 0 13 (dk_at dksX4_changed_3 14 rfl rfl)
theorem dX4_changed_86 : decode cX4_changed 86 = .ok (.iload_n 2, 1) := dk_28 (dk_at dksX4_changed_3 17 rfl rfl)
theorem dX4_changed_87 : decode cX4_changed 87 = .ok (.iaload, 1) := dk_46 (dk_at dksX4_changed_3 18 rfl rfl)
theorem dX4_changed_88 : decode cX4_changed 88 = .ok (.iastore, 1) := dk_79 (dk_at dksX4_changed_3 19 rfl rfl)
theorem dX4_changed_89 : decode cX4_changed 89 = .ok (.iinc 2 1, 3) := dk_132 2 1 (dk_at dksX4_changed_3 20 rfl rfl)
theorem dX4_changed_92 : decode cX4_changed 92 = .ok (.goto (-31), 3) := dk_167 255 225 (dk_at dksX4_changed_4 0 rfl rfl)
theorem dX4_changed_95 : decode cX4_changed 95 = .ok (.aload_n 0, 1) := dk_42 (dk_at dksX4_changed_4 3 rfl rfl)
theorem dX4_changed_96 : decode cX4_changed 96 = .ok (.dup, 1) := dk_89 (dk_at dksX4_changed_4 4 rfl rfl)
theorem dX4_changed_97 : decode cX4_changed 97 = .ok (.getfield 51, 3) := dk_180 0 51 (dk_at dksX4_changed_4 5 rfl rfl)
theorem dX4_changed_100 : decode cX4_changed 100 = .ok (.iconst 1, 1) := dk_4 (dk_at dksX4_changed_4 8 rfl rfl)
theorem dX4_changed_101 : decode cX4_changed 101 = .ok (.iadd, 1) := dk_96 (dk_at dksX4_changed_4 9 rfl rfl)
theorem dX4_changed_102 : decode cX4_changed 102 = .ok (.putfield 51, 3) := dk_181 0 51 (dk_at dksX4_changed_4 10 rfl rfl)
theorem dX4_changed_105 : decode cX4_changed 105 = .ok (.iload_n 1, 1) := dk_27 (dk_at dksX4_changed_4 13 rfl rfl)
theorem dX4_changed_106 : decode cX4_changed 106 = .ok (.ireturn, 1) := dk_172 (dk_at dksX4_changed_4 14 rfl rfl)
def dkwX4_addFrame_0 : List UInt8 := [42, 182, 0, 91, 42, 42, 27, 28, 29, 182, 0, 103, 182, 0, 98, 172]
abbrev dktX4_addFrame_0 : List UInt8 := dkwX4_addFrame_0 ++ []
theorem dksX4_addFrame_0 : cX4_addFrame.data.toList.drop 0 = dktX4_addFrame_0 := by decide +kernel
theorem dX4_addFrame_0 : decode cX4_addFrame 0 = .ok (.aload_n 0, 1) := dk_42 (dk_at dksX4_addFrame_0 0 rfl rfl)
theorem dX4_addFrame_1 : decode cX4_addFrame 1 = .ok (.invokevirtual 91, 3) := dk_182 0 91 (dk_at dksX4_addFrame_0 1 rfl rfl)
theorem dX4_addFrame_4 : decode cX4_addFrame 4 = .ok (.aload_n 0, 1) := dk_42 (dk_at dksX4_addFrame_0 4 rfl rfl)
theorem dX4_addFrame_5 : decode cX4_addFrame 5 = .ok (.aload_n 0, 1) := dk_42 (dk_at dksX4_addFrame_0 5 rfl rfl)
theorem dX4_addFrame_6 : decode cX4_addFrame 6 = .ok (.iload_n 1, 1) := dk_27 (dk_at dksX4_addFrame_0 6 rfl rfl)
theorem dX4_addFrame_7 : decode cX4_addFrame 7 = .ok (.iload_n 2, 1) := dk_28 (dk_at dksX4_addFrame_0 7 rfl rfl)
theorem dX4_addFrame_8 : decode cX4_addFrame 8 = .ok (.iload_n 3, 1) := dk_29 (dk_at dksX4_addFrame_0 8 rfl rfl)
theorem dX4_addFrame_9 : decode cX4_addFrame 9 = .ok (.invokevirtual 103, 3) := dk_182 0 103 (dk_at dksX4_addFrame_0 9 rfl rfl)
theorem dX4_addFrame_12 : decode cX4_addFrame 12 = .ok (.invokevirtual 98, 3) := dk_182 0 98 (dk_at dksX4_addFrame_0 12 rfl rfl)
theorem dX4_addFrame_15 : decode cX4_addFrame 15 = .ok (.ireturn, 1) := dk_172 (dk_at dksX4_addFrame_0 15 rfl rfl)
def dkwX4_frameIt_6 : List UInt8 := [16, 20, 96, 21, 4, 96, 4, 100, 16, 9, 79, 21, 4, 4, 96, 172]
abbrev dktX4_frameIt_6 : List UInt8 := dkwX4_frameIt_6 ++ []
def dkwX4_frameIt_5 : List UInt8 := [184, 0, 58, 4, 96, 92, 46, 4, 96, 79, 21, 4, 158, 0, 22, 42, 180, 0, 9, 27, 184, 0, 58]
abbrev dktX4_frameIt_5 : List UInt8 := dkwX4_frameIt_5 ++ dktX4_frameIt_6
def dkwX4_frameIt_4 : List UInt8 := [180, 0, 9, 27, 184, 0, 58, 7, 96, 5, 21, 4, 104, 96, 4, 96, 29, 79, 42, 180, 0, 9, 27]
abbrev dktX4_frameIt_4 : List UInt8 := dkwX4_frameIt_4 ++ dktX4_frameIt_5
def dkwX4_frameIt_3 : List UInt8 := [182, 0, 62, 54, 4, 42, 180, 0, 9, 27, 184, 0, 58, 7, 96, 5, 21, 4, 104, 96, 28, 79, 42]
abbrev dktX4_frameIt_3 : List UInt8 := dkwX4_frameIt_3 ++ dktX4_frameIt_4
def dkwX4_frameIt_2 : List UInt8 := [182, 0, 81, 154, 0, 13, 42, 27, 182, 0, 62, 16, 8, 160, 0, 9, 42, 6, 182, 0, 88, 172, 42, 27]
abbrev dktX4_frameIt_2 : List UInt8 := dkwX4_frameIt_2 ++ dktX4_frameIt_3
def dkwX4_frameIt_1 : List UInt8 := [153, 0, 15, 29, 133, 10, 20, 0, 101, 184, 0, 54, 154, 0, 9, 42, 5, 182, 0, 88, 172, 42, 27]
abbrev dktX4_frameIt_1 : List UInt8 := dkwX4_frameIt_1 ++ dktX4_frameIt_2
def dkwX4_frameIt_0 : List UInt8 := [42, 27, 182, 0, 84, 154, 0, 9, 42, 4, 182, 0, 88, 172, 28, 133, 10, 20, 0, 101, 184, 0, 54]
abbrev dktX4_frameIt_0 : List UInt8 := dkwX4_frameIt_0 ++ dktX4_frameIt_1
theorem dksX4_frameIt_0 : cX4_frameIt.data.toList.drop 0 = dktX4_frameIt_0 := by decide +kernel
theorem dksX4_frameIt_1 : cX4_frameIt.data.toList.drop 23 = dktX4_frameIt_1 := dk_seg dksX4_frameIt_0 23 rfl rfl
theorem dksX4_frameIt_2 : cX4_frameIt.data.toList.drop 46 = dktX4_frameIt_2 := dk_seg dksX4_frameIt_1 23 rfl rfl
theorem dksX4_frameIt_3 : cX4_frameIt.data.toList.drop 70 = dktX4_frameIt_3 := dk_seg dksX4_frameIt_2 24 rfl rfl
theorem dksX4_frameIt_4 : cX4_frameIt.data.toList.drop 93 = dktX4_frameIt_4 := dk_seg dksX4_frameIt_3 23 rfl rfl
theorem dksX4_frameIt_5 : cX4_frameIt.data.toList.drop 116 = dktX4_frameIt_5 := dk_seg dksX4_frameIt_4 23 rfl rfl
theorem dksX4_frameIt_6 : cX4_frameIt.data.toList.drop 139 = dktX4_frameIt_6 := dk_seg dksX4_frameIt_5 23 rfl rfl
theorem dX4_frameIt_0 : decode cX4_frameIt 0 = .ok (.aload_n 0, 1) := dk_42 (dk_at dksX4_frameIt_0 0 rfl rfl)
theorem dX4_frameIt_1 : decode cX4_frameIt 1 = .ok (.iload_n 1, 1) := dk_27 (dk_at dksX4_frameIt_0 1 rfl rfl)
theorem dX4_frameIt_2 : decode cX4_frameIt 2 = .ok (.invokevirtual 84, 3) := dk_182 0 84 (dk_at dksX4_frameIt_0 2 rfl rfl)
theorem dX4_frameIt_5 : decode cX4_frameIt 5 = .ok (.ifCond .ne 9, 3) := dk_154 0 9 (dk_at dksX4_frameIt_0 5 rfl rfl)
theorem dX4_frameIt_8 : decode cX4_frameIt 8 = .ok (.aload_n 0, 1) := dk_42 (dk_at dksX4_frameIt_0 8 rfl rfl)
theorem dX4_frameIt_9 : decode cX4_frameIt 9 = .ok (.iconst 1, 1) := dk_4 (dk_at dksX4_frameIt_0 9 rfl rfl)
theorem dX4_frameIt_10 : decode cX4_frameIt 10 = .ok (.invokevirtual 88, 3) := dk_182 0 88 (dk_at dksX4_frameIt_0 10 rfl rfl)
theorem dX4_frameIt_13 : decode cX4_frameIt 13 = .ok (.ireturn, 1) := dk_172 (dk_at dksX4_frameIt_0 13 rfl rfl)
theorem dX4_frameIt_14 : decode cX4_frameIt 14 = .ok (.iload_n 2, 1) := dk_28 (dk_at dksX4_frameIt_0 14 rfl rfl)
theorem dX4_frameIt_15 : decode cX4_frameIt 15 = .ok (.i2l, 1) := dk_133 (dk_at dksX4_frameIt_0 15 rfl rfl)
theorem dX4_frameIt_16 : decode cX4_frameIt 16 = .ok (.lconst 1, 1) := dk_10 (dk_at dksX4_frameIt_0 16 rfl rfl)
theorem dX4_frameIt_17 : decode cX4_frameIt 17 = .ok (.ldc2_w 101, 3) := dk_20 0 101 (dk_at dksX4_frameIt_0 17 rfl rfl)
theorem dX4_frameIt_20 : decode cX4_frameIt 20 = .ok (.invokestatic 54, 3) := dk_184 0 54 (dk_at dksX4_frameIt_0 20 rfl rfl)
theorem dX4_frameIt_23 : decode cX4_frameIt 23 = .ok (.ifCond .eq 15, 3) := dk_153 0 15 (dk_at dksX4_frameIt_1 0 rfl rfl)
theorem dX4_frameIt_26 : decode cX4_frameIt 26 = .ok (.iload_n 3, 1) := dk_29 (dk_at dksX4_frameIt_1 3 rfl rfl)
theorem dX4_frameIt_27 : decode cX4_frameIt 27 = .ok (.i2l, 1) := dk_133 (dk_at dksX4_frameIt_1 4 rfl rfl)
theorem dX4_frameIt_28 : decode cX4_frameIt 28 = .ok (.lconst 1, 1) := dk_10 (dk_at dksX4_frameIt_1 5 rfl rfl)
theorem dX4_frameIt_29 : decode cX4_frameIt 29 = .ok (.ldc2_w 101, 3) := dk_20 0 101 (dk_at dksX4_frameIt_1 6 rfl rfl)
theorem dX4_frameIt_32 : decode cX4_frameIt 32 = .ok (.invokestatic 54, 3) := dk_184 0 54 (dk_at dksX4_frameIt_1 9 rfl rfl)
theorem dX4_frameIt_35 : decode cX4_frameIt 35 = .ok (.ifCond .ne 9, 3) := dk_154 0 9 (dk_at dksX4_frameIt_1 12 rfl rfl)
theorem dX4_frameIt_38 : decode cX4_frameIt 38 = .ok (.aload_n 0, 1) := dk_42 (dk_at dksX4_frameIt_1 15 rfl rfl)
theorem dX4_frameIt_39 : decode cX4_frameIt 39 = .ok (.iconst 2, 1) := dk_5 (dk_at dksX4_frameIt_1 16 rfl rfl)
theorem dX4_frameIt_40 : decode cX4_frameIt 40 = .ok (.invokevirtual 88, 3) := dk_182 0 88 (dk_at dksX4_frameIt_1 17 rfl rfl)
theorem dX4_frameIt_43 : decode cX4_frameIt 43 = .ok (.ireturn, 1) := dk_172 (dk_at dksX4_frameIt_1 20 rfl rfl)
theorem dX4_frameIt_44 : decode cX4_frameIt 44 = .ok (.aload_n 0, 1) := dk_42 (dk_at dksX4_frameIt_1 21 rfl rfl)
theorem dX4_frameIt_45 : decode cX4_frameIt 45 = .ok (.iload_n 1, 1) := dk_27 (dk_at dksX4_frameIt_1 22 rfl rfl)
theorem dX4_frameIt_46 : decode cX4_frameIt 46 = .ok (.invokevirtual 81, 3) := dk_182 0 81 (dk_at dksX4_frameIt_2 0 rfl rfl)
theorem dX4_frameIt_49 : decode cX4_frameIt 49 = .ok (.ifCond .ne 13, 3) := dk_154 0 13 (dk_at dksX4_frameIt_2 3 rfl rfl)
theorem dX4_frameIt_52 : decode cX4_frameIt 52 = .ok (.aload_n 0, 1) := dk_42 (dk_at dksX4_frameIt_2 6 rfl rfl)
theorem dX4_frameIt_53 : decode cX4_frameIt 53 = .ok (.iload_n 1, 1) := dk_27 (dk_at dksX4_frameIt_2 7 rfl rfl)
theorem dX4_frameIt_54 : decode cX4_frameIt 54 = .ok (.invokevirtual 62, 3) := dk_182 0 62 (dk_at dksX4_frameIt_2 8 rfl rfl)
theorem dX4_frameIt_57 : decode cX4_frameIt 57 = .ok (.bipush 8, 2) := dk_16 8 (dk_at dksX4_frameIt_2 11 rfl rfl)
theorem dX4_frameIt_59 : decode cX4_frameIt 59 = .ok (.if_icmp .ne 9, 3) := dk_160 0 9 (dk_at dksX4_frameIt_2 13 rfl rfl)
theorem dX4_frameIt_62 : decode cX4_frameIt 62 = .ok (.aload_n 0, 1) := dk_42 (dk_at dksX4_frameIt_2 16 rfl rfl)
theorem dX4_frameIt_63 : decode cX4_frameIt 63 = .ok (.iconst 3, 1) := dk_6 (dk_at dksX4_frameIt_2 17 rfl rfl)
theorem dX4_frameIt_64 : decode cX4_frameIt 64 = .ok (.invokevirtual 88, 3) := dk_182 0 88 (dk_at dksX4_frameIt_2 18 rfl rfl)
theorem dX4_frameIt_67 : decode cX4_frameIt 67 = .ok (.ireturn, 1) := dk_172 (dk_at dksX4_frameIt_2 21 rfl rfl)
theorem dX4_frameIt_68 : decode cX4_frameIt 68 = .ok (.aload_n 0, 1) := dk_42 (dk_at dksX4_frameIt_2 22 rfl rfl)
theorem dX4_frameIt_69 : decode cX4_frameIt 69 = .ok (.iload_n 1, 1) := dk_27 (dk_at dksX4_frameIt_2 23 rfl rfl)
theorem dX4_frameIt_70 : decode cX4_frameIt 70 = .ok (.invokevirtual 62, 3) := dk_182 0 62 (dk_at dksX4_frameIt_3 0 rfl rfl)
theorem dX4_frameIt_73 : decode cX4_frameIt 73 = .ok (.istore 4, 2) := dk_54 4 (dk_at dksX4_frameIt_3 3 rfl rfl)
theorem dX4_frameIt_75 : decode cX4_frameIt 75 = .ok (.aload_n 0, 1) := dk_42 (dk_at dksX4_frameIt_3 5 rfl rfl)
theorem dX4_frameIt_76 : decode cX4_frameIt 76 = .ok (.getfield 9, 3) := dk_180 0 9 (dk_at dksX4_frameIt_3 6 rfl rfl)
theorem dX4_frameIt_79 : decode cX4_frameIt 79 = .ok (.iload_n 1, 1) := dk_27 (dk_at dksX4_frameIt_3 9 rfl rfl)
theorem dX4_frameIt_80 : decode cX4_frameIt 80 = .ok (.invokestatic 58, 3) := dk_184 0 58 (dk_at dksX4_frameIt_3 10 rfl rfl)
theorem dX4_frameIt_83 : decode cX4_frameIt 83 = .ok (.iconst 4, 1) := dk_7 (dk_at dksX4_frameIt_3 13 rfl rfl)
theorem dX4_frameIt_84 : decode cX4_frameIt 84 = .ok (.iadd, 1) := dk_96 (dk_at dksX4_frameIt_3 14 rfl rfl)
theorem dX4_frameIt_85 : decode cX4_frameIt 85 = .ok (.iconst 2, 1) := dk_5 (dk_at dksX4_frameIt_3 15 rfl rfl)
theorem dX4_frameIt_86 : decode cX4_frameIt 86 = .ok (.iload 4, 2) := dk_21 4 (dk_at dksX4_frameIt_3 16 rfl rfl)
theorem dX4_frameIt_88 : decode cX4_frameIt 88 = .ok (.imul, 1) := dk_104 (dk_at dksX4_frameIt_3 18 rfl rfl)
theorem dX4_frameIt_89 : decode cX4_frameIt 89 = .ok (.iadd, 1) := dk_96 (dk_at dksX4_frameIt_3 19 rfl rfl)
theorem dX4_frameIt_90 : decode cX4_frameIt 90 = .ok (.iload_n 2, 1) := dk_28 (dk_at dksX4_frameIt_3 20 rfl rfl)
theorem dX4_frameIt_91 : decode cX4_frameIt 91 = .ok (.iastore, 1) := dk_79 (dk_at dksX4_frameIt_3 21 rfl rfl)
theorem dX4_frameIt_92 : decode cX4_frameIt 92 = .ok (.aload_n 0, 1) := dk_42 (dk_at dksX4_frameIt_3 22 rfl rfl)
theorem dX4_frameIt_93 : decode cX4_frameIt 93 = .ok (.getfield 9, 3) := dk_180 0 9 (dk_at dksX4_frameIt_4 0 rfl rfl)
theorem dX4_frameIt_96 : decode cX4_frameIt 96 = .ok (.iload_n 1, 1) := dk_27 (dk_at dksX4_frameIt_4 3 rfl rfl)
theorem dX4_frameIt_97 : decode cX4_frameIt 97 = .ok (.invokestatic 58, 3) := dk_184 0 58 (dk_at dksX4_frameIt_4 4 rfl rfl)
theorem dX4_frameIt_100 : decode cX4_frameIt 100 = .ok (.iconst 4, 1) := dk_7 (dk_at dksX4_frameIt_4 7 rfl rfl)
theorem dX4_frameIt_101 : decode cX4_frameIt 101 = .ok (.iadd, 1) := dk_96 (dk_at dksX4_frameIt_4 8 rfl rfl)
theorem dX4_frameIt_102 : decode cX4_frameIt 102 = .ok (.iconst 2, 1) := dk_5 (dk_at dksX4_frameIt_4 9 rfl rfl)
theorem dX4_frameIt_103 : decode cX4_frameIt 103 = .ok (.iload 4, 2) := dk_21 4 (dk_at dksX4_frameIt_4 10 rfl rfl)
theorem dX4_frameIt_105 : decode cX4_frameIt 105 = .ok (.imul, 1) := dk_104 (dk_at dksX4_frameIt_4 12 rfl rfl)
theorem dX4_frameIt_106 : decode cX4_frameIt 106 = .ok (.iadd, 1) := dk_96 (dk_at dksX4_frameIt_4 13 rfl rfl)
theorem dX4_frameIt_107 : decode cX4_frameIt 107 = .ok (.iconst 1, 1) := dk_4 (dk_at dksX4_frameIt_4 14 rfl rfl)
theorem dX4_frameIt_108 : decode cX4_frameIt 108 = .ok (.iadd, 1) := dk_96 (dk_at dksX4_frameIt_4 15 rfl rfl)
theorem dX4_frameIt_109 : decode cX4_frameIt 109 = .ok (.iload_n 3, 1) := dk_29 (dk_at dksX4_frameIt_4 16 rfl rfl)
theorem dX4_frameIt_110 : decode cX4_frameIt 110 = .ok (.iastore, 1) := dk_79 (dk_at dksX4_frameIt_4 17 rfl rfl)
theorem dX4_frameIt_111 : decode cX4_frameIt 111 = .ok (.aload_n 0, 1) := dk_42 (dk_at dksX4_frameIt_4 18 rfl rfl)
theorem dX4_frameIt_112 : decode cX4_frameIt 112 = .ok (.getfield 9, 3) := dk_180 0 9 (dk_at dksX4_frameIt_4 19 rfl rfl)
theorem dX4_frameIt_115 : decode cX4_frameIt 115 = .ok (.iload_n 1, 1) := dk_27 (dk_at dksX4_frameIt_4 22 rfl rfl)
theorem dX4_frameIt_116 : decode cX4_frameIt 116 = .ok (.invokestatic 58, 3) := dk_184 0 58 (dk_at dksX4_frameIt_5 0 rfl rfl)
theorem dX4_frameIt_119 : decode cX4_frameIt 119 = .ok (.iconst 1, 1) := dk_4 (dk_at dksX4_frameIt_5 3 rfl rfl)
theorem dX4_frameIt_120 : decode cX4_frameIt 120 = .ok (.iadd, 1) := dk_96 (dk_at dksX4_frameIt_5 4 rfl rfl)
theorem dX4_frameIt_121 : decode cX4_frameIt 121 = .ok (.dup2, 1) := dk_92 (dk_at dksX4_frameIt_5 5 rfl rfl)
theorem dX4_frameIt_122 : decode cX4_frameIt 122 = .ok (.iaload, 1) := dk_46 (dk_at dksX4_frameIt_5 6 rfl rfl)
theorem dX4_frameIt_123 : decode cX4_frameIt 123 = .ok (.iconst 1, 1) := dk_4 (dk_at dksX4_frameIt_5 7 rfl rfl)
theorem dX4_frameIt_124 : decode cX4_frameIt 124 = .ok (.iadd, 1) := dk_96 (dk_at dksX4_frameIt_5 8 rfl rfl)
theorem dX4_frameIt_125 : decode cX4_frameIt 125 = .ok (.iastore, 1) := dk_79 (dk_at dksX4_frameIt_5 9 rfl rfl)
theorem dX4_frameIt_126 : decode cX4_frameIt 126 = .ok (.iload 4, 2) := dk_21 4 (dk_at dksX4_frameIt_5 10 rfl rfl)
theorem dX4_frameIt_128 : decode cX4_frameIt 128 = .ok (.ifCond .le 22, 3) := dk_158 0 22 (dk_at dksX4_frameIt_5 12 rfl rfl)
theorem dX4_frameIt_131 : decode cX4_frameIt 131 = .ok (.aload_n 0, 1) := dk_42 (dk_at dksX4_frameIt_5 15 rfl rfl)
theorem dX4_frameIt_132 : decode cX4_frameIt 132 = .ok (.getfield 9, 3) := dk_180 0 9 (dk_at dksX4_frameIt_5 16 rfl rfl)
theorem dX4_frameIt_135 : decode cX4_frameIt 135 = .ok (.iload_n 1, 1) := dk_27 (dk_at dksX4_frameIt_5 19 rfl rfl)
theorem dX4_frameIt_136 : decode cX4_frameIt 136 = .ok (.invokestatic 58, 3) := dk_184 0 58 (dk_at dksX4_frameIt_5 20 rfl rfl)
theorem dX4_frameIt_139 : decode cX4_frameIt 139 = .ok (.bipush 20, 2) := dk_16 20 (dk_at dksX4_frameIt_6 0 rfl rfl)
theorem dX4_frameIt_141 : decode cX4_frameIt 141 = .ok (.iadd, 1) := dk_96 (dk_at dksX4_frameIt_6 2 rfl rfl)
theorem dX4_frameIt_142 : decode cX4_frameIt 142 = .ok (.iload 4, 2) := dk_21 4 (dk_at dksX4_frameIt_6 3 rfl rfl)
theorem dX4_frameIt_144 : decode cX4_frameIt 144 = .ok (.iadd, 1) := dk_96 (dk_at dksX4_frameIt_6 5 rfl rfl)
theorem dX4_frameIt_145 : decode cX4_frameIt 145 = .ok (.iconst 1, 1) := dk_4 (dk_at dksX4_frameIt_6 6 rfl rfl)
theorem dX4_frameIt_146 : decode cX4_frameIt 146 = .ok (.isub, 1) := dk_100 (dk_at dksX4_frameIt_6 7 rfl rfl)
theorem dX4_frameIt_147 : decode cX4_frameIt 147 = .ok (.bipush 9, 2) := dk_16 9 (dk_at dksX4_frameIt_6 8 rfl rfl)
theorem dX4_frameIt_149 : decode cX4_frameIt 149 = .ok (.iastore, 1) := dk_79 (dk_at dksX4_frameIt_6 10 rfl rfl)
theorem dX4_frameIt_150 : decode cX4_frameIt 150 = .ok (.iload 4, 2) := dk_21 4 (dk_at dksX4_frameIt_6 11 rfl rfl)
theorem dX4_frameIt_152 : decode cX4_frameIt 152 = .ok (.iconst 1, 1) := dk_4 (dk_at dksX4_frameIt_6 13 rfl rfl)
theorem dX4_frameIt_153 : decode cX4_frameIt 153 = .ok (.iadd, 1) := dk_96 (dk_at dksX4_frameIt_6 14 rfl rfl)
theorem dX4_frameIt_154 : decode cX4_frameIt 154 = .ok (.ireturn, 1) := dk_172 (dk_at dksX4_frameIt_6 15 rfl rfl)
def dkwX4_isHull_0 : List UInt8 := [27, 133, 9, 42, 180, 0, 9, 3, 46, 4, 100, 133, 184, 0, 54, 172]
abbrev dktX4_isHull_0 : List UInt8 := dkwX4_isHull_0 ++ []
theorem dksX4_isHull_0 : cX4_isHull.data.toList.drop 0 = dktX4_isHull_0 := by decide +kernel
theorem dX4_isHull_0 : decode cX4_isHull 0 = .ok (.iload_n 1, 1) := dk_27 (dk_at dksX4_isHull_0 0 rfl rfl)
theorem dX4_isHull_1 : decode cX4_isHull 1 = .ok (.i2l, 1) := dk_133 (dk_at dksX4_isHull_0 1 rfl rfl)
theorem dX4_isHull_2 : decode cX4_isHull 2 = .ok (.lconst 0, 1) := dk_9 (dk_at dksX4_isHull_0 2 rfl rfl)
theorem dX4_isHull_3 : decode cX4_isHull 3 = .ok (.aload_n 0, 1) := dk_42 (dk_at dksX4_isHull_0 3 rfl rfl)
theorem dX4_isHull_4 : decode cX4_isHull 4 = .ok (.getfield 9, 3) := dk_180 0 9 (dk_at dksX4_isHull_0 4 rfl rfl)
theorem dX4_isHull_7 : decode cX4_isHull 7 = .ok (.iconst 0, 1) := dk_3 (dk_at dksX4_isHull_0 7 rfl rfl)
theorem dX4_isHull_8 : decode cX4_isHull 8 = .ok (.iaload, 1) := dk_46 (dk_at dksX4_isHull_0 8 rfl rfl)
theorem dX4_isHull_9 : decode cX4_isHull 9 = .ok (.iconst 1, 1) := dk_4 (dk_at dksX4_isHull_0 9 rfl rfl)
theorem dX4_isHull_10 : decode cX4_isHull 10 = .ok (.isub, 1) := dk_100 (dk_at dksX4_isHull_0 10 rfl rfl)
theorem dX4_isHull_11 : decode cX4_isHull 11 = .ok (.i2l, 1) := dk_133 (dk_at dksX4_isHull_0 11 rfl rfl)
theorem dX4_isHull_12 : decode cX4_isHull 12 = .ok (.invokestatic 54, 3) := dk_184 0 54 (dk_at dksX4_isHull_0 12 rfl rfl)
theorem dX4_isHull_15 : decode cX4_isHull 15 = .ok (.ireturn, 1) := dk_172 (dk_at dksX4_isHull_0 15 rfl rfl)
def dkwX4_in_0 : List UInt8 := [30, 32, 148, 155, 0, 14, 30, 22, 4, 148, 157, 0, 7, 4, 167, 0, 4, 3, 172]
abbrev dktX4_in_0 : List UInt8 := dkwX4_in_0 ++ []
theorem dksX4_in_0 : cX4_in.data.toList.drop 0 = dktX4_in_0 := by decide +kernel
theorem dX4_in_0 : decode cX4_in 0 = .ok (.lload_n 0, 1) := dk_30 (dk_at dksX4_in_0 0 rfl rfl)
theorem dX4_in_1 : decode cX4_in 1 = .ok (.lload_n 2, 1) := dk_32 (dk_at dksX4_in_0 1 rfl rfl)
theorem dX4_in_2 : decode cX4_in 2 = .ok (.lcmp, 1) := dk_148 (dk_at dksX4_in_0 2 rfl rfl)
theorem dX4_in_3 : decode cX4_in 3 = .ok (.ifCond .lt 14, 3) := dk_155 0 14 (dk_at dksX4_in_0 3 rfl rfl)
theorem dX4_in_6 : decode cX4_in 6 = .ok (.lload_n 0, 1) := dk_30 (dk_at dksX4_in_0 6 rfl rfl)
theorem dX4_in_7 : decode cX4_in 7 = .ok (.lload 4, 2) := dk_22 4 (dk_at dksX4_in_0 7 rfl rfl)
theorem dX4_in_9 : decode cX4_in 9 = .ok (.lcmp, 1) := dk_148 (dk_at dksX4_in_0 9 rfl rfl)
theorem dX4_in_10 : decode cX4_in 10 = .ok (.ifCond .gt 7, 3) := dk_157 0 7 (dk_at dksX4_in_0 10 rfl rfl)
theorem dX4_in_13 : decode cX4_in 13 = .ok (.iconst 1, 1) := dk_4 (dk_at dksX4_in_0 13 rfl rfl)
theorem dX4_in_14 : decode cX4_in 14 = .ok (.goto 4, 3) := dk_167 0 4 (dk_at dksX4_in_0 14 rfl rfl)
theorem dX4_in_17 : decode cX4_in 17 = .ok (.iconst 0, 1) := dk_3 (dk_at dksX4_in_0 17 rfl rfl)
theorem dX4_in_18 : decode cX4_in 18 = .ok (.ireturn, 1) := dk_172 (dk_at dksX4_in_0 18 rfl rfl)
def dkwX4_state_0 : List UInt8 := [42, 180, 0, 9, 27, 184, 0, 58, 46, 172]
abbrev dktX4_state_0 : List UInt8 := dkwX4_state_0 ++ []
theorem dksX4_state_0 : cX4_state.data.toList.drop 0 = dktX4_state_0 := by decide +kernel
theorem dX4_state_0 : decode cX4_state 0 = .ok (.aload_n 0, 1) := dk_42 (dk_at dksX4_state_0 0 rfl rfl)
theorem dX4_state_1 : decode cX4_state 1 = .ok (.getfield 9, 3) := dk_180 0 9 (dk_at dksX4_state_0 1 rfl rfl)
theorem dX4_state_4 : decode cX4_state 4 = .ok (.iload_n 1, 1) := dk_27 (dk_at dksX4_state_0 4 rfl rfl)
theorem dX4_state_5 : decode cX4_state 5 = .ok (.invokestatic 58, 3) := dk_184 0 58 (dk_at dksX4_state_0 5 rfl rfl)
theorem dX4_state_8 : decode cX4_state 8 = .ok (.iaload, 1) := dk_46 (dk_at dksX4_state_0 8 rfl rfl)
theorem dX4_state_9 : decode cX4_state 9 = .ok (.ireturn, 1) := dk_172 (dk_at dksX4_state_0 9 rfl rfl)
def dkwX4_hullAt_0 : List UInt8 := [16, 21, 16, 28, 26, 104, 96, 172]
abbrev dktX4_hullAt_0 : List UInt8 := dkwX4_hullAt_0 ++ []
theorem dksX4_hullAt_0 : cX4_hullAt.data.toList.drop 0 = dktX4_hullAt_0 := by decide +kernel
theorem dX4_hullAt_0 : decode cX4_hullAt 0 = .ok (.bipush 21, 2) := dk_16 21 (dk_at dksX4_hullAt_0 0 rfl rfl)
theorem dX4_hullAt_2 : decode cX4_hullAt 2 = .ok (.bipush 28, 2) := dk_16 28 (dk_at dksX4_hullAt_0 2 rfl rfl)
theorem dX4_hullAt_4 : decode cX4_hullAt 4 = .ok (.iload_n 0, 1) := dk_26 (dk_at dksX4_hullAt_0 4 rfl rfl)
theorem dX4_hullAt_5 : decode cX4_hullAt 5 = .ok (.imul, 1) := dk_104 (dk_at dksX4_hullAt_0 5 rfl rfl)
theorem dX4_hullAt_6 : decode cX4_hullAt 6 = .ok (.iadd, 1) := dk_96 (dk_at dksX4_hullAt_0 6 rfl rfl)
theorem dX4_hullAt_7 : decode cX4_hullAt 7 = .ok (.ireturn, 1) := dk_172 (dk_at dksX4_hullAt_0 7 rfl rfl)
def dkwX4_frames_0 : List UInt8 := [42, 180, 0, 9, 27, 184, 0, 58, 4, 96, 46, 172]
abbrev dktX4_frames_0 : List UInt8 := dkwX4_frames_0 ++ []
theorem dksX4_frames_0 : cX4_frames.data.toList.drop 0 = dktX4_frames_0 := by decide +kernel
theorem dX4_frames_0 : decode cX4_frames 0 = .ok (.aload_n 0, 1) := dk_42 (dk_at dksX4_frames_0 0 rfl rfl)
theorem dX4_frames_1 : decode cX4_frames 1 = .ok (.getfield 9, 3) := dk_180 0 9 (dk_at dksX4_frames_0 1 rfl rfl)
theorem dX4_frames_4 : decode cX4_frames 4 = .ok (.iload_n 1, 1) := dk_27 (dk_at dksX4_frames_0 4 rfl rfl)
theorem dX4_frames_5 : decode cX4_frames 5 = .ok (.invokestatic 58, 3) := dk_184 0 58 (dk_at dksX4_frames_0 5 rfl rfl)
theorem dX4_frames_8 : decode cX4_frames 8 = .ok (.iconst 1, 1) := dk_4 (dk_at dksX4_frames_0 8 rfl rfl)
theorem dX4_frames_9 : decode cX4_frames 9 = .ok (.iadd, 1) := dk_96 (dk_at dksX4_frames_0 9 rfl rfl)
theorem dX4_frames_10 : decode cX4_frames 10 = .ok (.iaload, 1) := dk_46 (dk_at dksX4_frames_0 10 rfl rfl)
theorem dX4_frames_11 : decode cX4_frames 11 = .ok (.ireturn, 1) := dk_172 (dk_at dksX4_frames_0 11 rfl rfl)
def dkwX4_mirror_0 : List UInt8 := [42, 182, 0, 91, 42, 42, 27, 182, 0, 106, 182, 0, 98, 172]
abbrev dktX4_mirror_0 : List UInt8 := dkwX4_mirror_0 ++ []
theorem dksX4_mirror_0 : cX4_mirror.data.toList.drop 0 = dktX4_mirror_0 := by decide +kernel
theorem dX4_mirror_0 : decode cX4_mirror 0 = .ok (.aload_n 0, 1) := dk_42 (dk_at dksX4_mirror_0 0 rfl rfl)
theorem dX4_mirror_1 : decode cX4_mirror 1 = .ok (.invokevirtual 91, 3) := dk_182 0 91 (dk_at dksX4_mirror_0 1 rfl rfl)
theorem dX4_mirror_4 : decode cX4_mirror 4 = .ok (.aload_n 0, 1) := dk_42 (dk_at dksX4_mirror_0 4 rfl rfl)
theorem dX4_mirror_5 : decode cX4_mirror 5 = .ok (.aload_n 0, 1) := dk_42 (dk_at dksX4_mirror_0 5 rfl rfl)
theorem dX4_mirror_6 : decode cX4_mirror 6 = .ok (.iload_n 1, 1) := dk_27 (dk_at dksX4_mirror_0 6 rfl rfl)
theorem dX4_mirror_7 : decode cX4_mirror 7 = .ok (.invokevirtual 106, 3) := dk_182 0 106 (dk_at dksX4_mirror_0 7 rfl rfl)
theorem dX4_mirror_10 : decode cX4_mirror 10 = .ok (.invokevirtual 98, 3) := dk_182 0 98 (dk_at dksX4_mirror_0 10 rfl rfl)
theorem dX4_mirror_13 : decode cX4_mirror 13 = .ok (.ireturn, 1) := dk_172 (dk_at dksX4_mirror_0 13 rfl rfl)
def dkwX4_mirrorIt_4 : List UInt8 := [21, 4, 21, 5, 160, 0, 7, 3, 167, 0, 4, 4, 96, 61, 132, 3, 1, 167, 255, 175, 28, 172]
abbrev dktX4_mirrorIt_4 : List UInt8 := dkwX4_mirrorIt_4 ++ []
def dkwX4_mirrorIt_3 : List UInt8 := [96, 21, 5, 79, 42, 180, 0, 9, 27, 184, 0, 58, 7, 96, 5, 29, 104, 96, 4, 96, 21, 4, 79, 28]
abbrev dktX4_mirrorIt_3 : List UInt8 := dkwX4_mirrorIt_3 ++ dktX4_mirrorIt_4
def dkwX4_mirrorIt_2 : List UInt8 := [54, 4, 42, 27, 29, 4, 182, 0, 71, 54, 5, 42, 180, 0, 9, 27, 184, 0, 58, 7, 96, 5, 29, 104]
abbrev dktX4_mirrorIt_2 : List UInt8 := dkwX4_mirrorIt_2 ++ dktX4_mirrorIt_3
def dkwX4_mirrorIt_1 : List UInt8 := [182, 0, 88, 172, 3, 61, 3, 62, 29, 42, 27, 182, 0, 62, 162, 0, 78, 42, 27, 29, 3, 182, 0, 71]
abbrev dktX4_mirrorIt_1 : List UInt8 := dkwX4_mirrorIt_1 ++ dktX4_mirrorIt_2
def dkwX4_mirrorIt_0 : List UInt8 := [42, 27, 182, 0, 84, 154, 0, 9, 42, 4, 182, 0, 88, 172, 42, 27, 182, 0, 81, 153, 0, 9, 42, 5]
abbrev dktX4_mirrorIt_0 : List UInt8 := dkwX4_mirrorIt_0 ++ dktX4_mirrorIt_1
theorem dksX4_mirrorIt_0 : cX4_mirrorIt.data.toList.drop 0 = dktX4_mirrorIt_0 := by decide +kernel
theorem dksX4_mirrorIt_1 : cX4_mirrorIt.data.toList.drop 24 = dktX4_mirrorIt_1 := dk_seg dksX4_mirrorIt_0 24 rfl rfl
theorem dksX4_mirrorIt_2 : cX4_mirrorIt.data.toList.drop 48 = dktX4_mirrorIt_2 := dk_seg dksX4_mirrorIt_1 24 rfl rfl
theorem dksX4_mirrorIt_3 : cX4_mirrorIt.data.toList.drop 72 = dktX4_mirrorIt_3 := dk_seg dksX4_mirrorIt_2 24 rfl rfl
theorem dksX4_mirrorIt_4 : cX4_mirrorIt.data.toList.drop 96 = dktX4_mirrorIt_4 := dk_seg dksX4_mirrorIt_3 24 rfl rfl
theorem dX4_mirrorIt_0 : decode cX4_mirrorIt 0 = .ok (.aload_n 0, 1) := dk_42 (dk_at dksX4_mirrorIt_0 0 rfl rfl)
theorem dX4_mirrorIt_1 : decode cX4_mirrorIt 1 = .ok (.iload_n 1, 1) := dk_27 (dk_at dksX4_mirrorIt_0 1 rfl rfl)
theorem dX4_mirrorIt_2 : decode cX4_mirrorIt 2 = .ok (.invokevirtual 84, 3) := dk_182 0 84 (dk_at dksX4_mirrorIt_0 2 rfl rfl)
theorem dX4_mirrorIt_5 : decode cX4_mirrorIt 5 = .ok (.ifCond .ne 9, 3) := dk_154 0 9 (dk_at dksX4_mirrorIt_0 5 rfl rfl)
theorem dX4_mirrorIt_8 : decode cX4_mirrorIt 8 = .ok (.aload_n 0, 1) := dk_42 (dk_at dksX4_mirrorIt_0 8 rfl rfl)
theorem dX4_mirrorIt_9 : decode cX4_mirrorIt 9 = .ok (.iconst 1, 1) := dk_4 (dk_at dksX4_mirrorIt_0 9 rfl rfl)
theorem dX4_mirrorIt_10 : decode cX4_mirrorIt 10 = .ok (.invokevirtual 88, 3) := dk_182 0 88 (dk_at dksX4_mirrorIt_0 10 rfl rfl)
theorem dX4_mirrorIt_13 : decode cX4_mirrorIt 13 = .ok (.ireturn, 1) := dk_172 (dk_at dksX4_mirrorIt_0 13 rfl rfl)
theorem dX4_mirrorIt_14 : decode cX4_mirrorIt 14 = .ok (.aload_n 0, 1) := dk_42 (dk_at dksX4_mirrorIt_0 14 rfl rfl)
theorem dX4_mirrorIt_15 : decode cX4_mirrorIt 15 = .ok (.iload_n 1, 1) := dk_27 (dk_at dksX4_mirrorIt_0 15 rfl rfl)
theorem dX4_mirrorIt_16 : decode cX4_mirrorIt 16 = .ok (.invokevirtual 81, 3) := dk_182 0 81 (dk_at dksX4_mirrorIt_0 16 rfl rfl)
theorem dX4_mirrorIt_19 : decode cX4_mirrorIt 19 = .ok (.ifCond .eq 9, 3) := dk_153 0 9 (dk_at dksX4_mirrorIt_0 19 rfl rfl)
theorem dX4_mirrorIt_22 : decode cX4_mirrorIt 22 = .ok (.aload_n 0, 1) := dk_42 (dk_at dksX4_mirrorIt_0 22 rfl rfl)
theorem dX4_mirrorIt_23 : decode cX4_mirrorIt 23 = .ok (.iconst 2, 1) := dk_5 (dk_at dksX4_mirrorIt_0 23 rfl rfl)
theorem dX4_mirrorIt_24 : decode cX4_mirrorIt 24 = .ok (.invokevirtual 88, 3) := dk_182 0 88 (dk_at dksX4_mirrorIt_1 0 rfl rfl)
theorem dX4_mirrorIt_27 : decode cX4_mirrorIt 27 = .ok (.ireturn, 1) := dk_172 (dk_at dksX4_mirrorIt_1 3 rfl rfl)
theorem dX4_mirrorIt_28 : decode cX4_mirrorIt 28 = .ok (.iconst 0, 1) := dk_3 (dk_at dksX4_mirrorIt_1 4 rfl rfl)
theorem dX4_mirrorIt_29 : decode cX4_mirrorIt 29 = .ok (.istore_n 2, 1) := dk_61 (dk_at dksX4_mirrorIt_1 5 rfl rfl)
theorem dX4_mirrorIt_30 : decode cX4_mirrorIt 30 = .ok (.iconst 0, 1) := dk_3 (dk_at dksX4_mirrorIt_1 6 rfl rfl)
theorem dX4_mirrorIt_31 : decode cX4_mirrorIt 31 = .ok (.istore_n 3, 1) := dk_62 (dk_at dksX4_mirrorIt_1 7 rfl rfl)
theorem dX4_mirrorIt_32 : decode cX4_mirrorIt 32 = .ok (.iload_n 3, 1) := dk_29 (dk_at dksX4_mirrorIt_1 8 rfl rfl)
theorem dX4_mirrorIt_33 : decode cX4_mirrorIt 33 = .ok (.aload_n 0, 1) := dk_42 (dk_at dksX4_mirrorIt_1 9 rfl rfl)
theorem dX4_mirrorIt_34 : decode cX4_mirrorIt 34 = .ok (.iload_n 1, 1) := dk_27 (dk_at dksX4_mirrorIt_1 10 rfl rfl)
theorem dX4_mirrorIt_35 : decode cX4_mirrorIt 35 = .ok (.invokevirtual 62, 3) := dk_182 0 62 (dk_at dksX4_mirrorIt_1 11 rfl rfl)
theorem dX4_mirrorIt_38 : decode cX4_mirrorIt 38 = .ok (.if_icmp .ge 78, 3) := dk_162 0 78 (dk_at dksX4_mirrorIt_1 14 rfl rfl)
theorem dX4_mirrorIt_41 : decode cX4_mirrorIt 41 = .ok (.aload_n 0, 1) := dk_42 (dk_at dksX4_mirrorIt_1 17 rfl rfl)
theorem dX4_mirrorIt_42 : decode cX4_mirrorIt 42 = .ok (.iload_n 1, 1) := dk_27 (dk_at dksX4_mirrorIt_1 18 rfl rfl)
theorem dX4_mirrorIt_43 : decode cX4_mirrorIt 43 = .ok (.iload_n 3, 1) := dk_29 (dk_at dksX4_mirrorIt_1 19 rfl rfl)
theorem dX4_mirrorIt_44 : decode cX4_mirrorIt 44 = .ok (.iconst 0, 1) := dk_3 (dk_at dksX4_mirrorIt_1 20 rfl rfl)
theorem dX4_mirrorIt_45 : decode cX4_mirrorIt 45 = .ok (.invokevirtual 71, 3) := dk_182 0 71 (dk_at dksX4_mirrorIt_1 21 rfl rfl)
theorem dX4_mirrorIt_48 : decode cX4_mirrorIt 48 = .ok (.istore 4, 2) := dk_54 4 (dk_at dksX4_mirrorIt_2 0 rfl rfl)
theorem dX4_mirrorIt_50 : decode cX4_mirrorIt 50 = .ok (.aload_n 0, 1) := dk_42 (dk_at dksX4_mirrorIt_2 2 rfl rfl)
theorem dX4_mirrorIt_51 : decode cX4_mirrorIt 51 = .ok (.iload_n 1, 1) := dk_27 (dk_at dksX4_mirrorIt_2 3 rfl rfl)
theorem dX4_mirrorIt_52 : decode cX4_mirrorIt 52 = .ok (.iload_n 3, 1) := dk_29 (dk_at dksX4_mirrorIt_2 4 rfl rfl)
theorem dX4_mirrorIt_53 : decode cX4_mirrorIt 53 = .ok (.iconst 1, 1) := dk_4 (dk_at dksX4_mirrorIt_2 5 rfl rfl)
theorem dX4_mirrorIt_54 : decode cX4_mirrorIt 54 = .ok (.invokevirtual 71, 3) := dk_182 0 71 (dk_at dksX4_mirrorIt_2 6 rfl rfl)
theorem dX4_mirrorIt_57 : decode cX4_mirrorIt 57 = .ok (.istore 5, 2) := dk_54 5 (dk_at dksX4_mirrorIt_2 9 rfl rfl)
theorem dX4_mirrorIt_59 : decode cX4_mirrorIt 59 = .ok (.aload_n 0, 1) := dk_42 (dk_at dksX4_mirrorIt_2 11 rfl rfl)
theorem dX4_mirrorIt_60 : decode cX4_mirrorIt 60 = .ok (.getfield 9, 3) := dk_180 0 9 (dk_at dksX4_mirrorIt_2 12 rfl rfl)
theorem dX4_mirrorIt_63 : decode cX4_mirrorIt 63 = .ok (.iload_n 1, 1) := dk_27 (dk_at dksX4_mirrorIt_2 15 rfl rfl)
theorem dX4_mirrorIt_64 : decode cX4_mirrorIt 64 = .ok (.invokestatic 58, 3) := dk_184 0 58 (dk_at dksX4_mirrorIt_2 16 rfl rfl)
theorem dX4_mirrorIt_67 : decode cX4_mirrorIt 67 = .ok (.iconst 4, 1) := dk_7 (dk_at dksX4_mirrorIt_2 19 rfl rfl)
theorem dX4_mirrorIt_68 : decode cX4_mirrorIt 68 = .ok (.iadd, 1) := dk_96 (dk_at dksX4_mirrorIt_2 20 rfl rfl)
theorem dX4_mirrorIt_69 : decode cX4_mirrorIt 69 = .ok (.iconst 2, 1) := dk_5 (dk_at dksX4_mirrorIt_2 21 rfl rfl)
theorem dX4_mirrorIt_70 : decode cX4_mirrorIt 70 = .ok (.iload_n 3, 1) := dk_29 (dk_at dksX4_mirrorIt_2 22 rfl rfl)
theorem dX4_mirrorIt_71 : decode cX4_mirrorIt 71 = .ok (.imul, 1) := dk_104 (dk_at dksX4_mirrorIt_2 23 rfl rfl)
theorem dX4_mirrorIt_72 : decode cX4_mirrorIt 72 = .ok (.iadd, 1) := dk_96 (dk_at dksX4_mirrorIt_3 0 rfl rfl)
theorem dX4_mirrorIt_73 : decode cX4_mirrorIt 73 = .ok (.iload 5, 2) := dk_21 5 (dk_at dksX4_mirrorIt_3 1 rfl rfl)
theorem dX4_mirrorIt_75 : decode cX4_mirrorIt 75 = .ok (.iastore, 1) := dk_79 (dk_at dksX4_mirrorIt_3 3 rfl rfl)
theorem dX4_mirrorIt_76 : decode cX4_mirrorIt 76 = .ok (.aload_n 0, 1) := dk_42 (dk_at dksX4_mirrorIt_3 4 rfl rfl)
theorem dX4_mirrorIt_77 : decode cX4_mirrorIt 77 = .ok (.getfield 9, 3) := dk_180 0 9 (dk_at dksX4_mirrorIt_3 5 rfl rfl)
theorem dX4_mirrorIt_80 : decode cX4_mirrorIt 80 = .ok (.iload_n 1, 1) := dk_27 (dk_at dksX4_mirrorIt_3 8 rfl rfl)
theorem dX4_mirrorIt_81 : decode cX4_mirrorIt 81 = .ok (.invokestatic 58, 3) := dk_184 0 58 (dk_at dksX4_mirrorIt_3 9 rfl rfl)
theorem dX4_mirrorIt_84 : decode cX4_mirrorIt 84 = .ok (.iconst 4, 1) := dk_7 (dk_at dksX4_mirrorIt_3 12 rfl rfl)
theorem dX4_mirrorIt_85 : decode cX4_mirrorIt 85 = .ok (.iadd, 1) := dk_96 (dk_at dksX4_mirrorIt_3 13 rfl rfl)
theorem dX4_mirrorIt_86 : decode cX4_mirrorIt 86 = .ok (.iconst 2, 1) := dk_5 (dk_at dksX4_mirrorIt_3 14 rfl rfl)
theorem dX4_mirrorIt_87 : decode cX4_mirrorIt 87 = .ok (.iload_n 3, 1) := dk_29 (dk_at dksX4_mirrorIt_3 15 rfl rfl)
theorem dX4_mirrorIt_88 : decode cX4_mirrorIt 88 = .ok (.imul, 1) := dk_104 (dk_at dksX4_mirrorIt_3 16 rfl rfl)
theorem dX4_mirrorIt_89 : decode cX4_mirrorIt 89 = .ok (.iadd, 1) := dk_96 (dk_at dksX4_mirrorIt_3 17 rfl rfl)
theorem dX4_mirrorIt_90 : decode cX4_mirrorIt 90 = .ok (.iconst 1, 1) := dk_4 (dk_at dksX4_mirrorIt_3 18 rfl rfl)
theorem dX4_mirrorIt_91 : decode cX4_mirrorIt 91 = .ok (.iadd, 1) := dk_96 (dk_at dksX4_mirrorIt_3 19 rfl rfl)
theorem dX4_mirrorIt_92 : decode cX4_mirrorIt 92 = .ok (.iload 4, 2) := dk_21 4 (dk_at dksX4_mirrorIt_3 20 rfl rfl)
theorem dX4_mirrorIt_94 : decode cX4_mirrorIt 94 = .ok (.iastore, 1) := dk_79 (dk_at dksX4_mirrorIt_3 22 rfl rfl)
theorem dX4_mirrorIt_95 : decode cX4_mirrorIt 95 = .ok (.iload_n 2, 1) := dk_28 (dk_at dksX4_mirrorIt_3 23 rfl rfl)
theorem dX4_mirrorIt_96 : decode cX4_mirrorIt 96 = .ok (.iload 4, 2) := dk_21 4 (dk_at dksX4_mirrorIt_4 0 rfl rfl)
theorem dX4_mirrorIt_98 : decode cX4_mirrorIt 98 = .ok (.iload 5, 2) := dk_21 5 (dk_at dksX4_mirrorIt_4 2 rfl rfl)
theorem dX4_mirrorIt_100 : decode cX4_mirrorIt 100 = .ok (.if_icmp .ne 7, 3) := dk_160 0 7 (dk_at dksX4_mirrorIt_4 4 rfl rfl)
theorem dX4_mirrorIt_103 : decode cX4_mirrorIt 103 = .ok (.iconst 0, 1) := dk_3 (dk_at dksX4_mirrorIt_4 7 rfl rfl)
theorem dX4_mirrorIt_104 : decode cX4_mirrorIt 104 = .ok (.goto 4, 3) := dk_167 0 4 (dk_at dksX4_mirrorIt_4 8 rfl rfl)
theorem dX4_mirrorIt_107 : decode cX4_mirrorIt 107 = .ok (.iconst 1, 1) := dk_4 (dk_at dksX4_mirrorIt_4 11 rfl rfl)
theorem dX4_mirrorIt_108 : decode cX4_mirrorIt 108 = .ok (.iadd, 1) := dk_96 (dk_at dksX4_mirrorIt_4 12 rfl rfl)
theorem dX4_mirrorIt_109 : decode cX4_mirrorIt 109 = .ok (.istore_n 2, 1) := dk_61 (dk_at dksX4_mirrorIt_4 13 rfl rfl)
theorem dX4_mirrorIt_110 : decode cX4_mirrorIt 110 = .ok (.iinc 3 1, 3) := dk_132 3 1 (dk_at dksX4_mirrorIt_4 14 rfl rfl)
theorem dX4_mirrorIt_113 : decode cX4_mirrorIt 113 = .ok (.goto (-81), 3) := dk_167 255 175 (dk_at dksX4_mirrorIt_4 17 rfl rfl)
theorem dX4_mirrorIt_116 : decode cX4_mirrorIt 116 = .ok (.iload_n 2, 1) := dk_28 (dk_at dksX4_mirrorIt_4 20 rfl rfl)
theorem dX4_mirrorIt_117 : decode cX4_mirrorIt 117 = .ok (.ireturn, 1) := dk_172 (dk_at dksX4_mirrorIt_4 21 rfl rfl)
def dkwX4_width_0 : List UInt8 := [42, 180, 0, 9, 27, 184, 0, 58, 7, 96, 5, 28, 104, 96, 29, 96, 46, 172]
abbrev dktX4_width_0 : List UInt8 := dkwX4_width_0 ++ []
theorem dksX4_width_0 : cX4_width.data.toList.drop 0 = dktX4_width_0 := by decide +kernel
theorem dX4_width_0 : decode cX4_width 0 = .ok (.aload_n 0, 1) := dk_42 (dk_at dksX4_width_0 0 rfl rfl)
theorem dX4_width_1 : decode cX4_width 1 = .ok (.getfield 9, 3) := dk_180 0 9 (dk_at dksX4_width_0 1 rfl rfl)
theorem dX4_width_4 : decode cX4_width 4 = .ok (.iload_n 1, 1) := dk_27 (dk_at dksX4_width_0 4 rfl rfl)
theorem dX4_width_5 : decode cX4_width 5 = .ok (.invokestatic 58, 3) := dk_184 0 58 (dk_at dksX4_width_0 5 rfl rfl)
theorem dX4_width_8 : decode cX4_width 8 = .ok (.iconst 4, 1) := dk_7 (dk_at dksX4_width_0 8 rfl rfl)
theorem dX4_width_9 : decode cX4_width 9 = .ok (.iadd, 1) := dk_96 (dk_at dksX4_width_0 9 rfl rfl)
theorem dX4_width_10 : decode cX4_width 10 = .ok (.iconst 2, 1) := dk_5 (dk_at dksX4_width_0 10 rfl rfl)
theorem dX4_width_11 : decode cX4_width 11 = .ok (.iload_n 2, 1) := dk_28 (dk_at dksX4_width_0 11 rfl rfl)
theorem dX4_width_12 : decode cX4_width 12 = .ok (.imul, 1) := dk_104 (dk_at dksX4_width_0 12 rfl rfl)
theorem dX4_width_13 : decode cX4_width 13 = .ok (.iadd, 1) := dk_96 (dk_at dksX4_width_0 13 rfl rfl)
theorem dX4_width_14 : decode cX4_width 14 = .ok (.iload_n 3, 1) := dk_29 (dk_at dksX4_width_0 14 rfl rfl)
theorem dX4_width_15 : decode cX4_width 15 = .ok (.iadd, 1) := dk_96 (dk_at dksX4_width_0 15 rfl rfl)
theorem dX4_width_16 : decode cX4_width 16 = .ok (.iaload, 1) := dk_46 (dk_at dksX4_width_0 16 rfl rfl)
theorem dX4_width_17 : decode cX4_width 17 = .ok (.ireturn, 1) := dk_172 (dk_at dksX4_width_0 17 rfl rfl)
def dkwX4_setCargo_0 : List UInt8 := [42, 182, 0, 91, 42, 42, 27, 28, 182, 0, 114, 182, 0, 98, 172]
abbrev dktX4_setCargo_0 : List UInt8 := dkwX4_setCargo_0 ++ []
theorem dksX4_setCargo_0 : cX4_setCargo.data.toList.drop 0 = dktX4_setCargo_0 := by decide +kernel
theorem dX4_setCargo_0 : decode cX4_setCargo 0 = .ok (.aload_n 0, 1) := dk_42 (dk_at dksX4_setCargo_0 0 rfl rfl)
theorem dX4_setCargo_1 : decode cX4_setCargo 1 = .ok (.invokevirtual 91, 3) := dk_182 0 91 (dk_at dksX4_setCargo_0 1 rfl rfl)
theorem dX4_setCargo_4 : decode cX4_setCargo 4 = .ok (.aload_n 0, 1) := dk_42 (dk_at dksX4_setCargo_0 4 rfl rfl)
theorem dX4_setCargo_5 : decode cX4_setCargo 5 = .ok (.aload_n 0, 1) := dk_42 (dk_at dksX4_setCargo_0 5 rfl rfl)
theorem dX4_setCargo_6 : decode cX4_setCargo 6 = .ok (.iload_n 1, 1) := dk_27 (dk_at dksX4_setCargo_0 6 rfl rfl)
theorem dX4_setCargo_7 : decode cX4_setCargo 7 = .ok (.iload_n 2, 1) := dk_28 (dk_at dksX4_setCargo_0 7 rfl rfl)
theorem dX4_setCargo_8 : decode cX4_setCargo 8 = .ok (.invokevirtual 114, 3) := dk_182 0 114 (dk_at dksX4_setCargo_0 8 rfl rfl)
theorem dX4_setCargo_11 : decode cX4_setCargo 11 = .ok (.invokevirtual 98, 3) := dk_182 0 98 (dk_at dksX4_setCargo_0 11 rfl rfl)
theorem dX4_setCargo_14 : decode cX4_setCargo 14 = .ok (.ireturn, 1) := dk_172 (dk_at dksX4_setCargo_0 14 rfl rfl)
def dkwX4_cargoIt_3 : List UInt8 := [172]
abbrev dktX4_cargoIt_3 : List UInt8 := dkwX4_cargoIt_3 ++ []
def dkwX4_cargoIt_2 : List UInt8 := [180, 0, 9, 27, 184, 0, 58, 5, 96, 46, 62, 42, 180, 0, 9, 27, 184, 0, 58, 5, 96, 28, 79, 29]
abbrev dktX4_cargoIt_2 : List UInt8 := dkwX4_cargoIt_2 ++ dktX4_cargoIt_3
def dkwX4_cargoIt_1 : List UInt8 := [154, 0, 9, 42, 5, 182, 0, 88, 172, 42, 27, 182, 0, 111, 154, 0, 9, 42, 6, 182, 0, 88, 172, 42]
abbrev dktX4_cargoIt_1 : List UInt8 := dkwX4_cargoIt_1 ++ dktX4_cargoIt_2
def dkwX4_cargoIt_0 : List UInt8 := [42, 27, 182, 0, 84, 154, 0, 9, 42, 4, 182, 0, 88, 172, 28, 133, 9, 20, 0, 109, 184, 0, 54]
abbrev dktX4_cargoIt_0 : List UInt8 := dkwX4_cargoIt_0 ++ dktX4_cargoIt_1
theorem dksX4_cargoIt_0 : cX4_cargoIt.data.toList.drop 0 = dktX4_cargoIt_0 := by decide +kernel
theorem dksX4_cargoIt_1 : cX4_cargoIt.data.toList.drop 23 = dktX4_cargoIt_1 := dk_seg dksX4_cargoIt_0 23 rfl rfl
theorem dksX4_cargoIt_2 : cX4_cargoIt.data.toList.drop 47 = dktX4_cargoIt_2 := dk_seg dksX4_cargoIt_1 24 rfl rfl
theorem dksX4_cargoIt_3 : cX4_cargoIt.data.toList.drop 71 = dktX4_cargoIt_3 := dk_seg dksX4_cargoIt_2 24 rfl rfl
theorem dX4_cargoIt_0 : decode cX4_cargoIt 0 = .ok (.aload_n 0, 1) := dk_42 (dk_at dksX4_cargoIt_0 0 rfl rfl)
theorem dX4_cargoIt_1 : decode cX4_cargoIt 1 = .ok (.iload_n 1, 1) := dk_27 (dk_at dksX4_cargoIt_0 1 rfl rfl)
theorem dX4_cargoIt_2 : decode cX4_cargoIt 2 = .ok (.invokevirtual 84, 3) := dk_182 0 84 (dk_at dksX4_cargoIt_0 2 rfl rfl)
theorem dX4_cargoIt_5 : decode cX4_cargoIt 5 = .ok (.ifCond .ne 9, 3) := dk_154 0 9 (dk_at dksX4_cargoIt_0 5 rfl rfl)
theorem dX4_cargoIt_8 : decode cX4_cargoIt 8 = .ok (.aload_n 0, 1) := dk_42 (dk_at dksX4_cargoIt_0 8 rfl rfl)
theorem dX4_cargoIt_9 : decode cX4_cargoIt 9 = .ok (.iconst 1, 1) := dk_4 (dk_at dksX4_cargoIt_0 9 rfl rfl)
theorem dX4_cargoIt_10 : decode cX4_cargoIt 10 = .ok (.invokevirtual 88, 3) := dk_182 0 88 (dk_at dksX4_cargoIt_0 10 rfl rfl)
theorem dX4_cargoIt_13 : decode cX4_cargoIt 13 = .ok (.ireturn, 1) := dk_172 (dk_at dksX4_cargoIt_0 13 rfl rfl)
theorem dX4_cargoIt_14 : decode cX4_cargoIt 14 = .ok (.iload_n 2, 1) := dk_28 (dk_at dksX4_cargoIt_0 14 rfl rfl)
theorem dX4_cargoIt_15 : decode cX4_cargoIt 15 = .ok (.i2l, 1) := dk_133 (dk_at dksX4_cargoIt_0 15 rfl rfl)
theorem dX4_cargoIt_16 : decode cX4_cargoIt 16 = .ok (.lconst 0, 1) := dk_9 (dk_at dksX4_cargoIt_0 16 rfl rfl)
theorem dX4_cargoIt_17 : decode cX4_cargoIt 17 = .ok (.ldc2_w 109, 3) := dk_20 0 109 (dk_at dksX4_cargoIt_0 17 rfl rfl)
theorem dX4_cargoIt_20 : decode cX4_cargoIt 20 = .ok (.invokestatic 54, 3) := dk_184 0 54 (dk_at dksX4_cargoIt_0 20 rfl rfl)
theorem dX4_cargoIt_23 : decode cX4_cargoIt 23 = .ok (.ifCond .ne 9, 3) := dk_154 0 9 (dk_at dksX4_cargoIt_1 0 rfl rfl)
theorem dX4_cargoIt_26 : decode cX4_cargoIt 26 = .ok (.aload_n 0, 1) := dk_42 (dk_at dksX4_cargoIt_1 3 rfl rfl)
theorem dX4_cargoIt_27 : decode cX4_cargoIt 27 = .ok (.iconst 2, 1) := dk_5 (dk_at dksX4_cargoIt_1 4 rfl rfl)
theorem dX4_cargoIt_28 : decode cX4_cargoIt 28 = .ok (.invokevirtual 88, 3) := dk_182 0 88 (dk_at dksX4_cargoIt_1 5 rfl rfl)
theorem dX4_cargoIt_31 : decode cX4_cargoIt 31 = .ok (.ireturn, 1) := dk_172 (dk_at dksX4_cargoIt_1 8 rfl rfl)
theorem dX4_cargoIt_32 : decode cX4_cargoIt 32 = .ok (.aload_n 0, 1) := dk_42 (dk_at dksX4_cargoIt_1 9 rfl rfl)
theorem dX4_cargoIt_33 : decode cX4_cargoIt 33 = .ok (.iload_n 1, 1) := dk_27 (dk_at dksX4_cargoIt_1 10 rfl rfl)
theorem dX4_cargoIt_34 : decode cX4_cargoIt 34 = .ok (.invokevirtual 111, 3) := dk_182 0 111 (dk_at dksX4_cargoIt_1 11 rfl rfl)
theorem dX4_cargoIt_37 : decode cX4_cargoIt 37 = .ok (.ifCond .ne 9, 3) := dk_154 0 9 (dk_at dksX4_cargoIt_1 14 rfl rfl)
theorem dX4_cargoIt_40 : decode cX4_cargoIt 40 = .ok (.aload_n 0, 1) := dk_42 (dk_at dksX4_cargoIt_1 17 rfl rfl)
theorem dX4_cargoIt_41 : decode cX4_cargoIt 41 = .ok (.iconst 3, 1) := dk_6 (dk_at dksX4_cargoIt_1 18 rfl rfl)
theorem dX4_cargoIt_42 : decode cX4_cargoIt 42 = .ok (.invokevirtual 88, 3) := dk_182 0 88 (dk_at dksX4_cargoIt_1 19 rfl rfl)
theorem dX4_cargoIt_45 : decode cX4_cargoIt 45 = .ok (.ireturn, 1) := dk_172 (dk_at dksX4_cargoIt_1 22 rfl rfl)
theorem dX4_cargoIt_46 : decode cX4_cargoIt 46 = .ok (.aload_n 0, 1) := dk_42 (dk_at dksX4_cargoIt_1 23 rfl rfl)
theorem dX4_cargoIt_47 : decode cX4_cargoIt 47 = .ok (.getfield 9, 3) := dk_180 0 9 (dk_at dksX4_cargoIt_2 0 rfl rfl)
theorem dX4_cargoIt_50 : decode cX4_cargoIt 50 = .ok (.iload_n 1, 1) := dk_27 (dk_at dksX4_cargoIt_2 3 rfl rfl)
theorem dX4_cargoIt_51 : decode cX4_cargoIt 51 = .ok (.invokestatic 58, 3) := dk_184 0 58 (dk_at dksX4_cargoIt_2 4 rfl rfl)
theorem dX4_cargoIt_54 : decode cX4_cargoIt 54 = .ok (.iconst 2, 1) := dk_5 (dk_at dksX4_cargoIt_2 7 rfl rfl)
theorem dX4_cargoIt_55 : decode cX4_cargoIt 55 = .ok (.iadd, 1) := dk_96 (dk_at dksX4_cargoIt_2 8 rfl rfl)
theorem dX4_cargoIt_56 : decode cX4_cargoIt 56 = .ok (.iaload, 1) := dk_46 (dk_at dksX4_cargoIt_2 9 rfl rfl)
theorem dX4_cargoIt_57 : decode cX4_cargoIt 57 = .ok (.istore_n 3, 1) := dk_62 (dk_at dksX4_cargoIt_2 10 rfl rfl)
theorem dX4_cargoIt_58 : decode cX4_cargoIt 58 = .ok (.aload_n 0, 1) := dk_42 (dk_at dksX4_cargoIt_2 11 rfl rfl)
theorem dX4_cargoIt_59 : decode cX4_cargoIt 59 = .ok (.getfield 9, 3) := dk_180 0 9 (dk_at dksX4_cargoIt_2 12 rfl rfl)
theorem dX4_cargoIt_62 : decode cX4_cargoIt 62 = .ok (.iload_n 1, 1) := dk_27 (dk_at dksX4_cargoIt_2 15 rfl rfl)
theorem dX4_cargoIt_63 : decode cX4_cargoIt 63 = .ok (.invokestatic 58, 3) := dk_184 0 58 (dk_at dksX4_cargoIt_2 16 rfl rfl)
theorem dX4_cargoIt_66 : decode cX4_cargoIt 66 = .ok (.iconst 2, 1) := dk_5 (dk_at dksX4_cargoIt_2 19 rfl rfl)
theorem dX4_cargoIt_67 : decode cX4_cargoIt 67 = .ok (.iadd, 1) := dk_96 (dk_at dksX4_cargoIt_2 20 rfl rfl)
theorem dX4_cargoIt_68 : decode cX4_cargoIt 68 = .ok (.iload_n 2, 1) := dk_28 (dk_at dksX4_cargoIt_2 21 rfl rfl)
theorem dX4_cargoIt_69 : decode cX4_cargoIt 69 = .ok (.iastore, 1) := dk_79 (dk_at dksX4_cargoIt_2 22 rfl rfl)
theorem dX4_cargoIt_70 : decode cX4_cargoIt 70 = .ok (.iload_n 3, 1) := dk_29 (dk_at dksX4_cargoIt_2 23 rfl rfl)
theorem dX4_cargoIt_71 : decode cX4_cargoIt 71 = .ok (.ireturn, 1) := dk_172 (dk_at dksX4_cargoIt_3 0 rfl rfl)
def dkwX4_isWorked_0 : List UInt8 := [42, 27, 182, 0, 81, 153, 0, 12, 42, 27, 182, 0, 81, 4, 160, 0, 7, 4, 167, 0, 4, 3, 172]
abbrev dktX4_isWorked_0 : List UInt8 := dkwX4_isWorked_0 ++ []
theorem dksX4_isWorked_0 : cX4_isWorked.data.toList.drop 0 = dktX4_isWorked_0 := by decide +kernel
theorem dX4_isWorked_0 : decode cX4_isWorked 0 = .ok (.aload_n 0, 1) := dk_42 (dk_at dksX4_isWorked_0 0 rfl rfl)
theorem dX4_isWorked_1 : decode cX4_isWorked 1 = .ok (.iload_n 1, 1) := dk_27 (dk_at dksX4_isWorked_0 1 rfl rfl)
theorem dX4_isWorked_2 : decode cX4_isWorked 2 = .ok (.invokevirtual 81, 3) := dk_182 0 81 (dk_at dksX4_isWorked_0 2 rfl rfl)
theorem dX4_isWorked_5 : decode cX4_isWorked 5 = .ok (.ifCond .eq 12, 3) := dk_153 0 12 (dk_at dksX4_isWorked_0 5 rfl rfl)
theorem dX4_isWorked_8 : decode cX4_isWorked 8 = .ok (.aload_n 0, 1) := dk_42 (dk_at dksX4_isWorked_0 8 rfl rfl)
theorem dX4_isWorked_9 : decode cX4_isWorked 9 = .ok (.iload_n 1, 1) := dk_27 (dk_at dksX4_isWorked_0 9 rfl rfl)
theorem dX4_isWorked_10 : decode cX4_isWorked 10 = .ok (.invokevirtual 81, 3) := dk_182 0 81 (dk_at dksX4_isWorked_0 10 rfl rfl)
theorem dX4_isWorked_13 : decode cX4_isWorked 13 = .ok (.iconst 1, 1) := dk_4 (dk_at dksX4_isWorked_0 13 rfl rfl)
theorem dX4_isWorked_14 : decode cX4_isWorked 14 = .ok (.if_icmp .ne 7, 3) := dk_160 0 7 (dk_at dksX4_isWorked_0 14 rfl rfl)
theorem dX4_isWorked_17 : decode cX4_isWorked 17 = .ok (.iconst 1, 1) := dk_4 (dk_at dksX4_isWorked_0 17 rfl rfl)
theorem dX4_isWorked_18 : decode cX4_isWorked 18 = .ok (.goto 4, 3) := dk_167 0 4 (dk_at dksX4_isWorked_0 18 rfl rfl)
theorem dX4_isWorked_21 : decode cX4_isWorked 21 = .ok (.iconst 0, 1) := dk_3 (dk_at dksX4_isWorked_0 21 rfl rfl)
theorem dX4_isWorked_22 : decode cX4_isWorked 22 = .ok (.ireturn, 1) := dk_172 (dk_at dksX4_isWorked_0 22 rfl rfl)
def dkwX4_launch_0 : List UInt8 := [42, 182, 0, 91, 42, 42, 27, 182, 0, 129, 182, 0, 98, 172]
abbrev dktX4_launch_0 : List UInt8 := dkwX4_launch_0 ++ []
theorem dksX4_launch_0 : cX4_launch.data.toList.drop 0 = dktX4_launch_0 := by decide +kernel
theorem dX4_launch_0 : decode cX4_launch 0 = .ok (.aload_n 0, 1) := dk_42 (dk_at dksX4_launch_0 0 rfl rfl)
theorem dX4_launch_1 : decode cX4_launch 1 = .ok (.invokevirtual 91, 3) := dk_182 0 91 (dk_at dksX4_launch_0 1 rfl rfl)
theorem dX4_launch_4 : decode cX4_launch 4 = .ok (.aload_n 0, 1) := dk_42 (dk_at dksX4_launch_0 4 rfl rfl)
theorem dX4_launch_5 : decode cX4_launch 5 = .ok (.aload_n 0, 1) := dk_42 (dk_at dksX4_launch_0 5 rfl rfl)
theorem dX4_launch_6 : decode cX4_launch 6 = .ok (.iload_n 1, 1) := dk_27 (dk_at dksX4_launch_0 6 rfl rfl)
theorem dX4_launch_7 : decode cX4_launch 7 = .ok (.invokevirtual 129, 3) := dk_182 0 129 (dk_at dksX4_launch_0 7 rfl rfl)
theorem dX4_launch_10 : decode cX4_launch 10 = .ok (.invokevirtual 98, 3) := dk_182 0 98 (dk_at dksX4_launch_0 10 rfl rfl)
theorem dX4_launch_13 : decode cX4_launch 13 = .ok (.ireturn, 1) := dk_172 (dk_at dksX4_launch_0 13 rfl rfl)
def dkwX4_launchIt_4 : List UInt8 := [42, 180, 0, 9, 27, 184, 0, 58, 4, 79, 28, 172]
abbrev dktX4_launchIt_4 : List UInt8 := dkwX4_launchIt_4 ++ []
def dkwX4_launchIt_3 : List UInt8 := [164, 0, 7, 6, 167, 0, 4, 3, 62, 29, 158, 0, 14, 42, 29, 181, 0, 126, 42, 6, 182, 0, 88, 172]
abbrev dktX4_launchIt_3 : List UInt8 := dkwX4_launchIt_3 ++ dktX4_launchIt_4
def dkwX4_launchIt_2 : List UInt8 := [4, 167, 0, 31, 28, 2, 160, 0, 7, 5, 167, 0, 22, 28, 42, 42, 180, 0, 9, 4, 46, 182, 0, 123]
abbrev dktX4_launchIt_2 : List UInt8 := dkwX4_launchIt_2 ++ dktX4_launchIt_3
def dkwX4_launchIt_1 : List UInt8 := [182, 0, 88, 172, 42, 27, 42, 27, 182, 0, 117, 182, 0, 120, 61, 42, 27, 182, 0, 62, 5, 162, 0, 7]
abbrev dktX4_launchIt_1 : List UInt8 := dkwX4_launchIt_1 ++ dktX4_launchIt_2
def dkwX4_launchIt_0 : List UInt8 := [42, 27, 182, 0, 84, 154, 0, 9, 42, 4, 182, 0, 88, 172, 42, 27, 182, 0, 81, 153, 0, 9, 42, 5]
abbrev dktX4_launchIt_0 : List UInt8 := dkwX4_launchIt_0 ++ dktX4_launchIt_1
theorem dksX4_launchIt_0 : cX4_launchIt.data.toList.drop 0 = dktX4_launchIt_0 := by decide +kernel
theorem dksX4_launchIt_1 : cX4_launchIt.data.toList.drop 24 = dktX4_launchIt_1 := dk_seg dksX4_launchIt_0 24 rfl rfl
theorem dksX4_launchIt_2 : cX4_launchIt.data.toList.drop 48 = dktX4_launchIt_2 := dk_seg dksX4_launchIt_1 24 rfl rfl
theorem dksX4_launchIt_3 : cX4_launchIt.data.toList.drop 72 = dktX4_launchIt_3 := dk_seg dksX4_launchIt_2 24 rfl rfl
theorem dksX4_launchIt_4 : cX4_launchIt.data.toList.drop 96 = dktX4_launchIt_4 := dk_seg dksX4_launchIt_3 24 rfl rfl
theorem dX4_launchIt_0 : decode cX4_launchIt 0 = .ok (.aload_n 0, 1) := dk_42 (dk_at dksX4_launchIt_0 0 rfl rfl)
theorem dX4_launchIt_1 : decode cX4_launchIt 1 = .ok (.iload_n 1, 1) := dk_27 (dk_at dksX4_launchIt_0 1 rfl rfl)
theorem dX4_launchIt_2 : decode cX4_launchIt 2 = .ok (.invokevirtual 84, 3) := dk_182 0 84 (dk_at dksX4_launchIt_0 2 rfl rfl)
theorem dX4_launchIt_5 : decode cX4_launchIt 5 = .ok (.ifCond .ne 9, 3) := dk_154 0 9 (dk_at dksX4_launchIt_0 5 rfl rfl)
theorem dX4_launchIt_8 : decode cX4_launchIt 8 = .ok (.aload_n 0, 1) := dk_42 (dk_at dksX4_launchIt_0 8 rfl rfl)
theorem dX4_launchIt_9 : decode cX4_launchIt 9 = .ok (.iconst 1, 1) := dk_4 (dk_at dksX4_launchIt_0 9 rfl rfl)
theorem dX4_launchIt_10 : decode cX4_launchIt 10 = .ok (.invokevirtual 88, 3) := dk_182 0 88 (dk_at dksX4_launchIt_0 10 rfl rfl)
theorem dX4_launchIt_13 : decode cX4_launchIt 13 = .ok (.ireturn, 1) := dk_172 (dk_at dksX4_launchIt_0 13 rfl rfl)
theorem dX4_launchIt_14 : decode cX4_launchIt 14 = .ok (.aload_n 0, 1) := dk_42 (dk_at dksX4_launchIt_0 14 rfl rfl)
theorem dX4_launchIt_15 : decode cX4_launchIt 15 = .ok (.iload_n 1, 1) := dk_27 (dk_at dksX4_launchIt_0 15 rfl rfl)
theorem dX4_launchIt_16 : decode cX4_launchIt 16 = .ok (.invokevirtual 81, 3) := dk_182 0 81 (dk_at dksX4_launchIt_0 16 rfl rfl)
theorem dX4_launchIt_19 : decode cX4_launchIt 19 = .ok (.ifCond .eq 9, 3) := dk_153 0 9 (dk_at dksX4_launchIt_0 19 rfl rfl)
theorem dX4_launchIt_22 : decode cX4_launchIt 22 = .ok (.aload_n 0, 1) := dk_42 (dk_at dksX4_launchIt_0 22 rfl rfl)
theorem dX4_launchIt_23 : decode cX4_launchIt 23 = .ok (.iconst 2, 1) := dk_5 (dk_at dksX4_launchIt_0 23 rfl rfl)
theorem dX4_launchIt_24 : decode cX4_launchIt 24 = .ok (.invokevirtual 88, 3) := dk_182 0 88 (dk_at dksX4_launchIt_1 0 rfl rfl)
theorem dX4_launchIt_27 : decode cX4_launchIt 27 = .ok (.ireturn, 1) := dk_172 (dk_at dksX4_launchIt_1 3 rfl rfl)
theorem dX4_launchIt_28 : decode cX4_launchIt 28 = .ok (.aload_n 0, 1) := dk_42 (dk_at dksX4_launchIt_1 4 rfl rfl)
theorem dX4_launchIt_29 : decode cX4_launchIt 29 = .ok (.iload_n 1, 1) := dk_27 (dk_at dksX4_launchIt_1 5 rfl rfl)
theorem dX4_launchIt_30 : decode cX4_launchIt 30 = .ok (.aload_n 0, 1) := dk_42 (dk_at dksX4_launchIt_1 6 rfl rfl)
theorem dX4_launchIt_31 : decode cX4_launchIt 31 = .ok (.iload_n 1, 1) := dk_27 (dk_at dksX4_launchIt_1 7 rfl rfl)
theorem dX4_launchIt_32 : decode cX4_launchIt 32 = .ok (.invokevirtual 117, 3) := dk_182 0 117 (dk_at dksX4_launchIt_1 8 rfl rfl)
theorem dX4_launchIt_35 : decode cX4_launchIt 35 = .ok (.invokevirtual 120, 3) := dk_182 0 120 (dk_at dksX4_launchIt_1 11 rfl rfl)
theorem dX4_launchIt_38 : decode cX4_launchIt 38 = .ok (.istore_n 2, 1) := dk_61 (dk_at dksX4_launchIt_1 14 rfl rfl)
theorem dX4_launchIt_39 : decode cX4_launchIt 39 = .ok (.aload_n 0, 1) := dk_42 (dk_at dksX4_launchIt_1 15 rfl rfl)
theorem dX4_launchIt_40 : decode cX4_launchIt 40 = .ok (.iload_n 1, 1) := dk_27 (dk_at dksX4_launchIt_1 16 rfl rfl)
theorem dX4_launchIt_41 : decode cX4_launchIt 41 = .ok (.invokevirtual 62, 3) := dk_182 0 62 (dk_at dksX4_launchIt_1 17 rfl rfl)
theorem dX4_launchIt_44 : decode cX4_launchIt 44 = .ok (.iconst 2, 1) := dk_5 (dk_at dksX4_launchIt_1 20 rfl rfl)
theorem dX4_launchIt_45 : decode cX4_launchIt 45 = .ok (.if_icmp .ge 7, 3) := dk_162 0 7 (dk_at dksX4_launchIt_1 21 rfl rfl)
theorem dX4_launchIt_48 : decode cX4_launchIt 48 = .ok (.iconst 1, 1) := dk_4 (dk_at dksX4_launchIt_2 0 rfl rfl)
theorem dX4_launchIt_49 : decode cX4_launchIt 49 = .ok (.goto 31, 3) := dk_167 0 31 (dk_at dksX4_launchIt_2 1 rfl rfl)
theorem dX4_launchIt_52 : decode cX4_launchIt 52 = .ok (.iload_n 2, 1) := dk_28 (dk_at dksX4_launchIt_2 4 rfl rfl)
theorem dX4_launchIt_53 : decode cX4_launchIt 53 = .ok (.iconst (-1), 1) := dk_2 (dk_at dksX4_launchIt_2 5 rfl rfl)
theorem dX4_launchIt_54 : decode cX4_launchIt 54 = .ok (.if_icmp .ne 7, 3) := dk_160 0 7 (dk_at dksX4_launchIt_2 6 rfl rfl)
theorem dX4_launchIt_57 : decode cX4_launchIt 57 = .ok (.iconst 2, 1) := dk_5 (dk_at dksX4_launchIt_2 9 rfl rfl)
theorem dX4_launchIt_58 : decode cX4_launchIt 58 = .ok (.goto 22, 3) := dk_167 0 22 (dk_at dksX4_launchIt_2 10 rfl rfl)
theorem dX4_launchIt_61 : decode cX4_launchIt 61 = .ok (.iload_n 2, 1) := dk_28 (dk_at dksX4_launchIt_2 13 rfl rfl)
theorem dX4_launchIt_62 : decode cX4_launchIt 62 = .ok (.aload_n 0, 1) := dk_42 (dk_at dksX4_launchIt_2 14 rfl rfl)
theorem dX4_launchIt_63 : decode cX4_launchIt 63 = .ok (.aload_n 0, 1) := dk_42 (dk_at dksX4_launchIt_2 15 rfl rfl)
theorem dX4_launchIt_64 : decode cX4_launchIt 64 = .ok (.getfield 9, 3) := dk_180 0 9 (dk_at dksX4_launchIt_2 16 rfl rfl)
theorem dX4_launchIt_67 : decode cX4_launchIt 67 = .ok (.iconst 1, 1) := dk_4 (dk_at dksX4_launchIt_2 19 rfl rfl)
theorem dX4_launchIt_68 : decode cX4_launchIt 68 = .ok (.iaload, 1) := dk_46 (dk_at dksX4_launchIt_2 20 rfl rfl)
theorem dX4_launchIt_69 : decode cX4_launchIt 69 = .ok (.invokevirtual 123, 3) := dk_182 0 123 (dk_at dksX4_launchIt_2 21 rfl rfl)
theorem dX4_launchIt_72 : decode cX4_launchIt 72 = .ok (.if_icmp .le 7, 3) := dk_164 0 7 (dk_at dksX4_launchIt_3 0 rfl rfl)
theorem dX4_launchIt_75 : decode cX4_launchIt 75 = .ok (.iconst 3, 1) := dk_6 (dk_at dksX4_launchIt_3 3 rfl rfl)
theorem dX4_launchIt_76 : decode cX4_launchIt 76 = .ok (.goto 4, 3) := dk_167 0 4 (dk_at dksX4_launchIt_3 4 rfl rfl)
theorem dX4_launchIt_79 : decode cX4_launchIt 79 = .ok (.iconst 0, 1) := dk_3 (dk_at dksX4_launchIt_3 7 rfl rfl)
theorem dX4_launchIt_80 : decode cX4_launchIt 80 = .ok (.istore_n 3, 1) := dk_62 (dk_at dksX4_launchIt_3 8 rfl rfl)
theorem dX4_launchIt_81 : decode cX4_launchIt 81 = .ok (.iload_n 3, 1) := dk_29 (dk_at dksX4_launchIt_3 9 rfl rfl)
theorem dX4_launchIt_82 : decode cX4_launchIt 82 = .ok (.ifCond .le 14, 3) := dk_158 0 14 (dk_at dksX4_launchIt_3 10 rfl rfl)
theorem dX4_launchIt_85 : decode cX4_launchIt 85 = .ok (.aload_n 0, 1) := dk_42 (dk_at dksX4_launchIt_3 13 rfl rfl)
theorem dX4_launchIt_86 : decode cX4_launchIt 86 = .ok (.iload_n 3, 1) := dk_29 (dk_at dksX4_launchIt_3 14 rfl rfl)
theorem dX4_launchIt_87 : decode cX4_launchIt 87 = .ok (.putfield 126, 3) := dk_181 0 126 (dk_at dksX4_launchIt_3 15 rfl rfl)
theorem dX4_launchIt_90 : decode cX4_launchIt 90 = .ok (.aload_n 0, 1) := dk_42 (dk_at dksX4_launchIt_3 18 rfl rfl)
theorem dX4_launchIt_91 : decode cX4_launchIt 91 = .ok (.iconst 3, 1) := dk_6 (dk_at dksX4_launchIt_3 19 rfl rfl)
theorem dX4_launchIt_92 : decode cX4_launchIt 92 = .ok (.invokevirtual 88, 3) := dk_182 0 88 (dk_at dksX4_launchIt_3 20 rfl rfl)
theorem dX4_launchIt_95 : decode cX4_launchIt 95 = .ok (.ireturn, 1) := dk_172 (dk_at dksX4_launchIt_3 23 rfl rfl)
theorem dX4_launchIt_96 : decode cX4_launchIt 96 = .ok (.aload_n 0, 1) := dk_42 (dk_at dksX4_launchIt_4 0 rfl rfl)
theorem dX4_launchIt_97 : decode cX4_launchIt 97 = .ok (.getfield 9, 3) := dk_180 0 9 (dk_at dksX4_launchIt_4 1 rfl rfl)
theorem dX4_launchIt_100 : decode cX4_launchIt 100 = .ok (.iload_n 1, 1) := dk_27 (dk_at dksX4_launchIt_4 4 rfl rfl)
theorem dX4_launchIt_101 : decode cX4_launchIt 101 = .ok (.invokestatic 58, 3) := dk_184 0 58 (dk_at dksX4_launchIt_4 5 rfl rfl)
theorem dX4_launchIt_104 : decode cX4_launchIt 104 = .ok (.iconst 1, 1) := dk_4 (dk_at dksX4_launchIt_4 8 rfl rfl)
theorem dX4_launchIt_105 : decode cX4_launchIt 105 = .ok (.iastore, 1) := dk_79 (dk_at dksX4_launchIt_4 9 rfl rfl)
theorem dX4_launchIt_106 : decode cX4_launchIt 106 = .ok (.iload_n 2, 1) := dk_28 (dk_at dksX4_launchIt_4 10 rfl rfl)
theorem dX4_launchIt_107 : decode cX4_launchIt 107 = .ok (.ireturn, 1) := dk_172 (dk_at dksX4_launchIt_4 11 rfl rfl)
def dkwX4_weight_0 : List UInt8 := [42, 27, 182, 0, 75, 42, 180, 0, 9, 27, 184, 0, 58, 6, 96, 46, 96, 172]
abbrev dktX4_weight_0 : List UInt8 := dkwX4_weight_0 ++ []
theorem dksX4_weight_0 : cX4_weight.data.toList.drop 0 = dktX4_weight_0 := by decide +kernel
theorem dX4_weight_0 : decode cX4_weight 0 = .ok (.aload_n 0, 1) := dk_42 (dk_at dksX4_weight_0 0 rfl rfl)
theorem dX4_weight_1 : decode cX4_weight 1 = .ok (.iload_n 1, 1) := dk_27 (dk_at dksX4_weight_0 1 rfl rfl)
theorem dX4_weight_2 : decode cX4_weight 2 = .ok (.invokevirtual 75, 3) := dk_182 0 75 (dk_at dksX4_weight_0 2 rfl rfl)
theorem dX4_weight_5 : decode cX4_weight 5 = .ok (.aload_n 0, 1) := dk_42 (dk_at dksX4_weight_0 5 rfl rfl)
theorem dX4_weight_6 : decode cX4_weight 6 = .ok (.getfield 9, 3) := dk_180 0 9 (dk_at dksX4_weight_0 6 rfl rfl)
theorem dX4_weight_9 : decode cX4_weight 9 = .ok (.iload_n 1, 1) := dk_27 (dk_at dksX4_weight_0 9 rfl rfl)
theorem dX4_weight_10 : decode cX4_weight 10 = .ok (.invokestatic 58, 3) := dk_184 0 58 (dk_at dksX4_weight_0 10 rfl rfl)
theorem dX4_weight_13 : decode cX4_weight 13 = .ok (.iconst 3, 1) := dk_6 (dk_at dksX4_weight_0 13 rfl rfl)
theorem dX4_weight_14 : decode cX4_weight 14 = .ok (.iadd, 1) := dk_96 (dk_at dksX4_weight_0 14 rfl rfl)
theorem dX4_weight_15 : decode cX4_weight 15 = .ok (.iaload, 1) := dk_46 (dk_at dksX4_weight_0 15 rfl rfl)
theorem dX4_weight_16 : decode cX4_weight 16 = .ok (.iadd, 1) := dk_96 (dk_at dksX4_weight_0 16 rfl rfl)
theorem dX4_weight_17 : decode cX4_weight 17 = .ok (.ireturn, 1) := dk_172 (dk_at dksX4_weight_0 17 rfl rfl)
def dkwX4_dry_2 : List UInt8 := [172]
abbrev dktX4_dry_2 : List UInt8 := dkwX4_dry_2 ++ []
def dkwX4_dry_1 : List UInt8 := [42, 27, 29, 3, 182, 0, 71, 42, 27, 29, 4, 182, 0, 71, 96, 96, 61, 132, 3, 1, 167, 255, 226, 28]
abbrev dktX4_dry_1 : List UInt8 := dkwX4_dry_1 ++ dktX4_dry_2
def dkwX4_dry_0 : List UInt8 := [42, 180, 0, 9, 27, 184, 0, 58, 5, 96, 46, 61, 3, 62, 29, 42, 27, 182, 0, 62, 162, 0, 27, 28]
abbrev dktX4_dry_0 : List UInt8 := dkwX4_dry_0 ++ dktX4_dry_1
theorem dksX4_dry_0 : cX4_dry.data.toList.drop 0 = dktX4_dry_0 := by decide +kernel
theorem dksX4_dry_1 : cX4_dry.data.toList.drop 24 = dktX4_dry_1 := dk_seg dksX4_dry_0 24 rfl rfl
theorem dksX4_dry_2 : cX4_dry.data.toList.drop 48 = dktX4_dry_2 := dk_seg dksX4_dry_1 24 rfl rfl
theorem dX4_dry_0 : decode cX4_dry 0 = .ok (.aload_n 0, 1) := dk_42 (dk_at dksX4_dry_0 0 rfl rfl)
theorem dX4_dry_1 : decode cX4_dry 1 = .ok (.getfield 9, 3) := dk_180 0 9 (dk_at dksX4_dry_0 1 rfl rfl)
theorem dX4_dry_4 : decode cX4_dry 4 = .ok (.iload_n 1, 1) := dk_27 (dk_at dksX4_dry_0 4 rfl rfl)
theorem dX4_dry_5 : decode cX4_dry 5 = .ok (.invokestatic 58, 3) := dk_184 0 58 (dk_at dksX4_dry_0 5 rfl rfl)
theorem dX4_dry_8 : decode cX4_dry 8 = .ok (.iconst 2, 1) := dk_5 (dk_at dksX4_dry_0 8 rfl rfl)
theorem dX4_dry_9 : decode cX4_dry 9 = .ok (.iadd, 1) := dk_96 (dk_at dksX4_dry_0 9 rfl rfl)
theorem dX4_dry_10 : decode cX4_dry 10 = .ok (.iaload, 1) := dk_46 (dk_at dksX4_dry_0 10 rfl rfl)
theorem dX4_dry_11 : decode cX4_dry 11 = .ok (.istore_n 2, 1) := dk_61 (dk_at dksX4_dry_0 11 rfl rfl)
theorem dX4_dry_12 : decode cX4_dry 12 = .ok (.iconst 0, 1) := dk_3 (dk_at dksX4_dry_0 12 rfl rfl)
theorem dX4_dry_13 : decode cX4_dry 13 = .ok (.istore_n 3, 1) := dk_62 (dk_at dksX4_dry_0 13 rfl rfl)
theorem dX4_dry_14 : decode cX4_dry 14 = .ok (.iload_n 3, 1) := dk_29 (dk_at dksX4_dry_0 14 rfl rfl)
theorem dX4_dry_15 : decode cX4_dry 15 = .ok (.aload_n 0, 1) := dk_42 (dk_at dksX4_dry_0 15 rfl rfl)
theorem dX4_dry_16 : decode cX4_dry 16 = .ok (.iload_n 1, 1) := dk_27 (dk_at dksX4_dry_0 16 rfl rfl)
theorem dX4_dry_17 : decode cX4_dry 17 = .ok (.invokevirtual 62, 3) := dk_182 0 62 (dk_at dksX4_dry_0 17 rfl rfl)
theorem dX4_dry_20 : decode cX4_dry 20 = .ok (.if_icmp .ge 27, 3) := dk_162 0 27 (dk_at dksX4_dry_0 20 rfl rfl)
theorem dX4_dry_23 : decode cX4_dry 23 = .ok (.iload_n 2, 1) := dk_28 (dk_at dksX4_dry_0 23 rfl rfl)
theorem dX4_dry_24 : decode cX4_dry 24 = .ok (.aload_n 0, 1) := dk_42 (dk_at dksX4_dry_1 0 rfl rfl)
theorem dX4_dry_25 : decode cX4_dry 25 = .ok (.iload_n 1, 1) := dk_27 (dk_at dksX4_dry_1 1 rfl rfl)
theorem dX4_dry_26 : decode cX4_dry 26 = .ok (.iload_n 3, 1) := dk_29 (dk_at dksX4_dry_1 2 rfl rfl)
theorem dX4_dry_27 : decode cX4_dry 27 = .ok (.iconst 0, 1) := dk_3 (dk_at dksX4_dry_1 3 rfl rfl)
theorem dX4_dry_28 : decode cX4_dry 28 = .ok (.invokevirtual 71, 3) := dk_182 0 71 (dk_at dksX4_dry_1 4 rfl rfl)
theorem dX4_dry_31 : decode cX4_dry 31 = .ok (.aload_n 0, 1) := dk_42 (dk_at dksX4_dry_1 7 rfl rfl)
theorem dX4_dry_32 : decode cX4_dry 32 = .ok (.iload_n 1, 1) := dk_27 (dk_at dksX4_dry_1 8 rfl rfl)
theorem dX4_dry_33 : decode cX4_dry 33 = .ok (.iload_n 3, 1) := dk_29 (dk_at dksX4_dry_1 9 rfl rfl)
theorem dX4_dry_34 : decode cX4_dry 34 = .ok (.iconst 1, 1) := dk_4 (dk_at dksX4_dry_1 10 rfl rfl)
theorem dX4_dry_35 : decode cX4_dry 35 = .ok (.invokevirtual 71, 3) := dk_182 0 71 (dk_at dksX4_dry_1 11 rfl rfl)
theorem dX4_dry_38 : decode cX4_dry 38 = .ok (.iadd, 1) := dk_96 (dk_at dksX4_dry_1 14 rfl rfl)
theorem dX4_dry_39 : decode cX4_dry 39 = .ok (.iadd, 1) := dk_96 (dk_at dksX4_dry_1 15 rfl rfl)
theorem dX4_dry_40 : decode cX4_dry 40 = .ok (.istore_n 2, 1) := dk_61 (dk_at dksX4_dry_1 16 rfl rfl)
theorem dX4_dry_41 : decode cX4_dry 41 = .ok (.iinc 3 1, 3) := dk_132 3 1 (dk_at dksX4_dry_1 17 rfl rfl)
theorem dX4_dry_44 : decode cX4_dry 44 = .ok (.goto (-30), 3) := dk_167 255 226 (dk_at dksX4_dry_1 20 rfl rfl)
theorem dX4_dry_47 : decode cX4_dry 47 = .ok (.iload_n 2, 1) := dk_28 (dk_at dksX4_dry_1 23 rfl rfl)
theorem dX4_dry_48 : decode cX4_dry 48 = .ok (.ireturn, 1) := dk_172 (dk_at dksX4_dry_2 0 rfl rfl)
def dkwX4_draught_3 : List UInt8 := [163, 0, 22, 29, 21, 4, 104, 5, 108, 28, 161, 0, 6, 21, 4, 172, 132, 4, 1, 167, 255, 233, 2, 172]
abbrev dktX4_draught_3 : List UInt8 := dkwX4_draught_3 ++ []
def dkwX4_draught_2 : List UInt8 := [4, 96, 4, 182, 0, 71, 96, 96, 62, 132, 4, 1, 167, 255, 201, 3, 54, 4, 21, 4, 16, 40]
abbrev dktX4_draught_2 : List UInt8 := dkwX4_draught_2 ++ dktX4_draught_3
def dkwX4_draught_1 : List UInt8 := [42, 27, 21, 4, 4, 182, 0, 71, 96, 42, 27, 21, 4, 4, 96, 3, 182, 0, 71, 96, 42, 27, 21, 4]
abbrev dktX4_draught_1 : List UInt8 := dkwX4_draught_1 ++ dktX4_draught_2
def dkwX4_draught_0 : List UInt8 := [3, 62, 3, 54, 4, 21, 4, 42, 27, 182, 0, 78, 162, 0, 51, 29, 42, 27, 21, 4, 3, 182, 0, 71]
abbrev dktX4_draught_0 : List UInt8 := dkwX4_draught_0 ++ dktX4_draught_1
theorem dksX4_draught_0 : cX4_draught.data.toList.drop 0 = dktX4_draught_0 := by decide +kernel
theorem dksX4_draught_1 : cX4_draught.data.toList.drop 24 = dktX4_draught_1 := dk_seg dksX4_draught_0 24 rfl rfl
theorem dksX4_draught_2 : cX4_draught.data.toList.drop 48 = dktX4_draught_2 := dk_seg dksX4_draught_1 24 rfl rfl
theorem dksX4_draught_3 : cX4_draught.data.toList.drop 70 = dktX4_draught_3 := dk_seg dksX4_draught_2 22 rfl rfl
theorem dX4_draught_0 : decode cX4_draught 0 = .ok (.iconst 0, 1) := dk_3 (dk_at dksX4_draught_0 0 rfl rfl)
theorem dX4_draught_1 : decode cX4_draught 1 = .ok (.istore_n 3, 1) := dk_62 (dk_at dksX4_draught_0 1 rfl rfl)
theorem dX4_draught_2 : decode cX4_draught 2 = .ok (.iconst 0, 1) := dk_3 (dk_at dksX4_draught_0 2 rfl rfl)
theorem dX4_draught_3 : decode cX4_draught 3 = .ok (.istore 4, 2) := dk_54 4 (dk_at dksX4_draught_0 3 rfl rfl)
theorem dX4_draught_5 : decode cX4_draught 5 = .ok (.iload 4, 2) := dk_21 4 (dk_at dksX4_draught_0 5 rfl rfl)
theorem dX4_draught_7 : decode cX4_draught 7 = .ok (.aload_n 0, 1) := dk_42 (dk_at dksX4_draught_0 7 rfl rfl)
theorem dX4_draught_8 : decode cX4_draught 8 = .ok (.iload_n 1, 1) := dk_27 (dk_at dksX4_draught_0 8 rfl rfl)
theorem dX4_draught_9 : decode cX4_draught 9 = .ok (.invokevirtual 78, 3) := dk_182 0 78 (dk_at dksX4_draught_0 9 rfl rfl)
theorem dX4_draught_12 : decode cX4_draught 12 = .ok (.if_icmp .ge 51, 3) := dk_162 0 51 (dk_at dksX4_draught_0 12 rfl rfl)
theorem dX4_draught_15 : decode cX4_draught 15 = .ok (.iload_n 3, 1) := dk_29 (dk_at dksX4_draught_0 15 rfl rfl)
theorem dX4_draught_16 : decode cX4_draught 16 = .ok (.aload_n 0, 1) := dk_42 (dk_at dksX4_draught_0 16 rfl rfl)
theorem dX4_draught_17 : decode cX4_draught 17 = .ok (.iload_n 1, 1) := dk_27 (dk_at dksX4_draught_0 17 rfl rfl)
theorem dX4_draught_18 : decode cX4_draught 18 = .ok (.iload 4, 2) := dk_21 4 (dk_at dksX4_draught_0 18 rfl rfl)
theorem dX4_draught_20 : decode cX4_draught 20 = .ok (.iconst 0, 1) := dk_3 (dk_at dksX4_draught_0 20 rfl rfl)
theorem dX4_draught_21 : decode cX4_draught 21 = .ok (.invokevirtual 71, 3) := dk_182 0 71 (dk_at dksX4_draught_0 21 rfl rfl)
theorem dX4_draught_24 : decode cX4_draught 24 = .ok (.aload_n 0, 1) := dk_42 (dk_at dksX4_draught_1 0 rfl rfl)
theorem dX4_draught_25 : decode cX4_draught 25 = .ok (.iload_n 1, 1) := dk_27 (dk_at dksX4_draught_1 1 rfl rfl)
theorem dX4_draught_26 : decode cX4_draught 26 = .ok (.iload 4, 2) := dk_21 4 (dk_at dksX4_draught_1 2 rfl rfl)
theorem dX4_draught_28 : decode cX4_draught 28 = .ok (.iconst 1, 1) := dk_4 (dk_at dksX4_draught_1 4 rfl rfl)
theorem dX4_draught_29 : decode cX4_draught 29 = .ok (.invokevirtual 71, 3) := dk_182 0 71 (dk_at dksX4_draught_1 5 rfl rfl)
theorem dX4_draught_32 : decode cX4_draught 32 = .ok (.iadd, 1) := dk_96 (dk_at dksX4_draught_1 8 rfl rfl)
theorem dX4_draught_33 : decode cX4_draught 33 = .ok (.aload_n 0, 1) := dk_42 (dk_at dksX4_draught_1 9 rfl rfl)
theorem dX4_draught_34 : decode cX4_draught 34 = .ok (.iload_n 1, 1) := dk_27 (dk_at dksX4_draught_1 10 rfl rfl)
theorem dX4_draught_35 : decode cX4_draught 35 = .ok (.iload 4, 2) := dk_21 4 (dk_at dksX4_draught_1 11 rfl rfl)
theorem dX4_draught_37 : decode cX4_draught 37 = .ok (.iconst 1, 1) := dk_4 (dk_at dksX4_draught_1 13 rfl rfl)
theorem dX4_draught_38 : decode cX4_draught 38 = .ok (.iadd, 1) := dk_96 (dk_at dksX4_draught_1 14 rfl rfl)
theorem dX4_draught_39 : decode cX4_draught 39 = .ok (.iconst 0, 1) := dk_3 (dk_at dksX4_draught_1 15 rfl rfl)
theorem dX4_draught_40 : decode cX4_draught 40 = .ok (.invokevirtual 71, 3) := dk_182 0 71 (dk_at dksX4_draught_1 16 rfl rfl)
theorem dX4_draught_43 : decode cX4_draught 43 = .ok (.iadd, 1) := dk_96 (dk_at dksX4_draught_1 19 rfl rfl)
theorem dX4_draught_44 : decode cX4_draught 44 = .ok (.aload_n 0, 1) := dk_42 (dk_at dksX4_draught_1 20 rfl rfl)
theorem dX4_draught_45 : decode cX4_draught 45 = .ok (.iload_n 1, 1) := dk_27 (dk_at dksX4_draught_1 21 rfl rfl)
theorem dX4_draught_46 : decode cX4_draught 46 = .ok (.iload 4, 2) := dk_21 4 (dk_at dksX4_draught_1 22 rfl rfl)
theorem dX4_draught_48 : decode cX4_draught 48 = .ok (.iconst 1, 1) := dk_4 (dk_at dksX4_draught_2 0 rfl rfl)
theorem dX4_draught_49 : decode cX4_draught 49 = .ok (.iadd, 1) := dk_96 (dk_at dksX4_draught_2 1 rfl rfl)
theorem dX4_draught_50 : decode cX4_draught 50 = .ok (.iconst 1, 1) := dk_4 (dk_at dksX4_draught_2 2 rfl rfl)
theorem dX4_draught_51 : decode cX4_draught 51 = .ok (.invokevirtual 71, 3) := dk_182 0 71 (dk_at dksX4_draught_2 3 rfl rfl)
theorem dX4_draught_54 : decode cX4_draught 54 = .ok (.iadd, 1) := dk_96 (dk_at dksX4_draught_2 6 rfl rfl)
theorem dX4_draught_55 : decode cX4_draught 55 = .ok (.iadd, 1) := dk_96 (dk_at dksX4_draught_2 7 rfl rfl)
theorem dX4_draught_56 : decode cX4_draught 56 = .ok (.istore_n 3, 1) := dk_62 (dk_at dksX4_draught_2 8 rfl rfl)
theorem dX4_draught_57 : decode cX4_draught 57 = .ok (.iinc 4 1, 3) := dk_132 4 1 (dk_at dksX4_draught_2 9 rfl rfl)
theorem dX4_draught_60 : decode cX4_draught 60 = .ok (.goto (-55), 3) := dk_167 255 201 (dk_at dksX4_draught_2 12 rfl rfl)
theorem dX4_draught_63 : decode cX4_draught 63 = .ok (.iconst 0, 1) := dk_3 (dk_at dksX4_draught_2 15 rfl rfl)
theorem dX4_draught_64 : decode cX4_draught 64 = .ok (.istore 4, 2) := dk_54 4 (dk_at dksX4_draught_2 16 rfl rfl)
theorem dX4_draught_66 : decode cX4_draught 66 = .ok (.iload 4, 2) := dk_21 4 (dk_at dksX4_draught_2 18 rfl rfl)
theorem dX4_draught_68 : decode cX4_draught 68 = .ok (.bipush 40, 2) := dk_16 40 (dk_at dksX4_draught_2 20 rfl rfl)
theorem dX4_draught_70 : decode cX4_draught 70 = .ok (.if_icmp .gt 22, 3) := dk_163 0 22 (dk_at dksX4_draught_3 0 rfl rfl)
theorem dX4_draught_73 : decode cX4_draught 73 = .ok (.iload_n 3, 1) := dk_29 (dk_at dksX4_draught_3 3 rfl rfl)
theorem dX4_draught_74 : decode cX4_draught 74 = .ok (.iload 4, 2) := dk_21 4 (dk_at dksX4_draught_3 4 rfl rfl)
theorem dX4_draught_76 : decode cX4_draught 76 = .ok (.imul, 1) := dk_104 (dk_at dksX4_draught_3 6 rfl rfl)
theorem dX4_draught_77 : decode cX4_draught 77 = .ok (.iconst 2, 1) := dk_5 (dk_at dksX4_draught_3 7 rfl rfl)
theorem dX4_draught_78 : decode cX4_draught 78 = .ok (.idiv, 1) := dk_108 (dk_at dksX4_draught_3 8 rfl rfl)
theorem dX4_draught_79 : decode cX4_draught 79 = .ok (.iload_n 2, 1) := dk_28 (dk_at dksX4_draught_3 9 rfl rfl)
theorem dX4_draught_80 : decode cX4_draught 80 = .ok (.if_icmp .lt 6, 3) := dk_161 0 6 (dk_at dksX4_draught_3 10 rfl rfl)
theorem dX4_draught_83 : decode cX4_draught 83 = .ok (.iload 4, 2) := dk_21 4 (dk_at dksX4_draught_3 13 rfl rfl)
theorem dX4_draught_85 : decode cX4_draught 85 = .ok (.ireturn, 1) := dk_172 (dk_at dksX4_draught_3 15 rfl rfl)
theorem dX4_draught_86 : decode cX4_draught 86 = .ok (.iinc 4 1, 3) := dk_132 4 1 (dk_at dksX4_draught_3 16 rfl rfl)
theorem dX4_draught_89 : decode cX4_draught 89 = .ok (.goto (-23), 3) := dk_167 255 233 (dk_at dksX4_draught_3 19 rfl rfl)
theorem dX4_draught_92 : decode cX4_draught 92 = .ok (.iconst (-1), 1) := dk_2 (dk_at dksX4_draught_3 22 rfl rfl)
theorem dX4_draught_93 : decode cX4_draught 93 = .ok (.ireturn, 1) := dk_172 (dk_at dksX4_draught_3 23 rfl rfl)
def dkwX4_seams_0 : List UInt8 := [3, 42, 27, 182, 0, 62, 4, 100, 184, 0, 65, 172]
abbrev dktX4_seams_0 : List UInt8 := dkwX4_seams_0 ++ []
theorem dksX4_seams_0 : cX4_seams.data.toList.drop 0 = dktX4_seams_0 := by decide +kernel
theorem dX4_seams_0 : decode cX4_seams 0 = .ok (.iconst 0, 1) := dk_3 (dk_at dksX4_seams_0 0 rfl rfl)
theorem dX4_seams_1 : decode cX4_seams 1 = .ok (.aload_n 0, 1) := dk_42 (dk_at dksX4_seams_0 1 rfl rfl)
theorem dX4_seams_2 : decode cX4_seams 2 = .ok (.iload_n 1, 1) := dk_27 (dk_at dksX4_seams_0 2 rfl rfl)
theorem dX4_seams_3 : decode cX4_seams 3 = .ok (.invokevirtual 62, 3) := dk_182 0 62 (dk_at dksX4_seams_0 3 rfl rfl)
theorem dX4_seams_6 : decode cX4_seams 6 = .ok (.iconst 1, 1) := dk_4 (dk_at dksX4_seams_0 6 rfl rfl)
theorem dX4_seams_7 : decode cX4_seams 7 = .ok (.isub, 1) := dk_100 (dk_at dksX4_seams_0 7 rfl rfl)
theorem dX4_seams_8 : decode cX4_seams 8 = .ok (.invokestatic 65, 3) := dk_184 0 65 (dk_at dksX4_seams_0 8 rfl rfl)
theorem dX4_seams_11 : decode cX4_seams 11 = .ok (.ireturn, 1) := dk_172 (dk_at dksX4_seams_0 11 rfl rfl)
def dkwX4_tide_0 : List UInt8 := [42, 180, 0, 9, 8, 27, 16, 12, 112, 96, 46, 172]
abbrev dktX4_tide_0 : List UInt8 := dkwX4_tide_0 ++ []
theorem dksX4_tide_0 : cX4_tide.data.toList.drop 0 = dktX4_tide_0 := by decide +kernel
theorem dX4_tide_0 : decode cX4_tide 0 = .ok (.aload_n 0, 1) := dk_42 (dk_at dksX4_tide_0 0 rfl rfl)
theorem dX4_tide_1 : decode cX4_tide 1 = .ok (.getfield 9, 3) := dk_180 0 9 (dk_at dksX4_tide_0 1 rfl rfl)
theorem dX4_tide_4 : decode cX4_tide 4 = .ok (.iconst 5, 1) := dk_8 (dk_at dksX4_tide_0 4 rfl rfl)
theorem dX4_tide_5 : decode cX4_tide 5 = .ok (.iload_n 1, 1) := dk_27 (dk_at dksX4_tide_0 5 rfl rfl)
theorem dX4_tide_6 : decode cX4_tide 6 = .ok (.bipush 12, 2) := dk_16 12 (dk_at dksX4_tide_0 6 rfl rfl)
theorem dX4_tide_8 : decode cX4_tide 8 = .ok (.irem, 1) := dk_112 (dk_at dksX4_tide_0 8 rfl rfl)
theorem dX4_tide_9 : decode cX4_tide 9 = .ok (.iadd, 1) := dk_96 (dk_at dksX4_tide_0 9 rfl rfl)
theorem dX4_tide_10 : decode cX4_tide 10 = .ok (.iaload, 1) := dk_46 (dk_at dksX4_tide_0 10 rfl rfl)
theorem dX4_tide_11 : decode cX4_tide 11 = .ok (.ireturn, 1) := dk_172 (dk_at dksX4_tide_0 11 rfl rfl)
def dkwX4_caulk_0 : List UInt8 := [42, 182, 0, 91, 42, 42, 27, 28, 182, 0, 136, 182, 0, 98, 172]
abbrev dktX4_caulk_0 : List UInt8 := dkwX4_caulk_0 ++ []
theorem dksX4_caulk_0 : cX4_caulk.data.toList.drop 0 = dktX4_caulk_0 := by decide +kernel
theorem dX4_caulk_0 : decode cX4_caulk 0 = .ok (.aload_n 0, 1) := dk_42 (dk_at dksX4_caulk_0 0 rfl rfl)
theorem dX4_caulk_1 : decode cX4_caulk 1 = .ok (.invokevirtual 91, 3) := dk_182 0 91 (dk_at dksX4_caulk_0 1 rfl rfl)
theorem dX4_caulk_4 : decode cX4_caulk 4 = .ok (.aload_n 0, 1) := dk_42 (dk_at dksX4_caulk_0 4 rfl rfl)
theorem dX4_caulk_5 : decode cX4_caulk 5 = .ok (.aload_n 0, 1) := dk_42 (dk_at dksX4_caulk_0 5 rfl rfl)
theorem dX4_caulk_6 : decode cX4_caulk 6 = .ok (.iload_n 1, 1) := dk_27 (dk_at dksX4_caulk_0 6 rfl rfl)
theorem dX4_caulk_7 : decode cX4_caulk 7 = .ok (.iload_n 2, 1) := dk_28 (dk_at dksX4_caulk_0 7 rfl rfl)
theorem dX4_caulk_8 : decode cX4_caulk 8 = .ok (.invokevirtual 136, 3) := dk_182 0 136 (dk_at dksX4_caulk_0 8 rfl rfl)
theorem dX4_caulk_11 : decode cX4_caulk 11 = .ok (.invokevirtual 98, 3) := dk_182 0 98 (dk_at dksX4_caulk_0 11 rfl rfl)
theorem dX4_caulk_14 : decode cX4_caulk 14 = .ok (.ireturn, 1) := dk_172 (dk_at dksX4_caulk_0 14 rfl rfl)
def dkwX4_caulkIt_2 : List UInt8 := [27, 184, 0, 58, 16, 20, 96, 28, 96, 16, 9, 79, 29, 172]
abbrev dktX4_caulkIt_2 : List UInt8 := dkwX4_caulkIt_2 ++ []
def dkwX4_caulkIt_1 : List UInt8 := [5, 182, 0, 88, 172, 42, 180, 0, 9, 27, 184, 0, 58, 16, 20, 96, 28, 96, 46, 62, 42, 180, 0, 9]
abbrev dktX4_caulkIt_1 : List UInt8 := dkwX4_caulkIt_1 ++ dktX4_caulkIt_2
def dkwX4_caulkIt_0 : List UInt8 := [42, 27, 28, 182, 0, 132, 154, 0, 9, 42, 4, 182, 0, 88, 172, 42, 27, 182, 0, 111, 154, 0, 9, 42]
abbrev dktX4_caulkIt_0 : List UInt8 := dkwX4_caulkIt_0 ++ dktX4_caulkIt_1
theorem dksX4_caulkIt_0 : cX4_caulkIt.data.toList.drop 0 = dktX4_caulkIt_0 := by decide +kernel
theorem dksX4_caulkIt_1 : cX4_caulkIt.data.toList.drop 24 = dktX4_caulkIt_1 := dk_seg dksX4_caulkIt_0 24 rfl rfl
theorem dksX4_caulkIt_2 : cX4_caulkIt.data.toList.drop 48 = dktX4_caulkIt_2 := dk_seg dksX4_caulkIt_1 24 rfl rfl
theorem dX4_caulkIt_0 : decode cX4_caulkIt 0 = .ok (.aload_n 0, 1) := dk_42 (dk_at dksX4_caulkIt_0 0 rfl rfl)
theorem dX4_caulkIt_1 : decode cX4_caulkIt 1 = .ok (.iload_n 1, 1) := dk_27 (dk_at dksX4_caulkIt_0 1 rfl rfl)
theorem dX4_caulkIt_2 : decode cX4_caulkIt 2 = .ok (.iload_n 2, 1) := dk_28 (dk_at dksX4_caulkIt_0 2 rfl rfl)
theorem dX4_caulkIt_3 : decode cX4_caulkIt 3 = .ok (.invokevirtual 132, 3) := dk_182 0 132 (dk_at dksX4_caulkIt_0 3 rfl rfl)
theorem dX4_caulkIt_6 : decode cX4_caulkIt 6 = .ok (.ifCond .ne 9, 3) := dk_154 0 9 (dk_at dksX4_caulkIt_0 6 rfl rfl)
theorem dX4_caulkIt_9 : decode cX4_caulkIt 9 = .ok (.aload_n 0, 1) := dk_42 (dk_at dksX4_caulkIt_0 9 rfl rfl)
theorem dX4_caulkIt_10 : decode cX4_caulkIt 10 = .ok (.iconst 1, 1) := dk_4 (dk_at dksX4_caulkIt_0 10 rfl rfl)
theorem dX4_caulkIt_11 : decode cX4_caulkIt 11 = .ok (.invokevirtual 88, 3) := dk_182 0 88 (dk_at dksX4_caulkIt_0 11 rfl rfl)
theorem dX4_caulkIt_14 : decode cX4_caulkIt 14 = .ok (.ireturn, 1) := dk_172 (dk_at dksX4_caulkIt_0 14 rfl rfl)
theorem dX4_caulkIt_15 : decode cX4_caulkIt 15 = .ok (.aload_n 0, 1) := dk_42 (dk_at dksX4_caulkIt_0 15 rfl rfl)
theorem dX4_caulkIt_16 : decode cX4_caulkIt 16 = .ok (.iload_n 1, 1) := dk_27 (dk_at dksX4_caulkIt_0 16 rfl rfl)
theorem dX4_caulkIt_17 : decode cX4_caulkIt 17 = .ok (.invokevirtual 111, 3) := dk_182 0 111 (dk_at dksX4_caulkIt_0 17 rfl rfl)
theorem dX4_caulkIt_20 : decode cX4_caulkIt 20 = .ok (.ifCond .ne 9, 3) := dk_154 0 9 (dk_at dksX4_caulkIt_0 20 rfl rfl)
theorem dX4_caulkIt_23 : decode cX4_caulkIt 23 = .ok (.aload_n 0, 1) := dk_42 (dk_at dksX4_caulkIt_0 23 rfl rfl)
theorem dX4_caulkIt_24 : decode cX4_caulkIt 24 = .ok (.iconst 2, 1) := dk_5 (dk_at dksX4_caulkIt_1 0 rfl rfl)
theorem dX4_caulkIt_25 : decode cX4_caulkIt 25 = .ok (.invokevirtual 88, 3) := dk_182 0 88 (dk_at dksX4_caulkIt_1 1 rfl rfl)
theorem dX4_caulkIt_28 : decode cX4_caulkIt 28 = .ok (.ireturn, 1) := dk_172 (dk_at dksX4_caulkIt_1 4 rfl rfl)
theorem dX4_caulkIt_29 : decode cX4_caulkIt 29 = .ok (.aload_n 0, 1) := dk_42 (dk_at dksX4_caulkIt_1 5 rfl rfl)
theorem dX4_caulkIt_30 : decode cX4_caulkIt 30 = .ok (.getfield 9, 3) := dk_180 0 9 (dk_at dksX4_caulkIt_1 6 rfl rfl)
theorem dX4_caulkIt_33 : decode cX4_caulkIt 33 = .ok (.iload_n 1, 1) := dk_27 (dk_at dksX4_caulkIt_1 9 rfl rfl)
theorem dX4_caulkIt_34 : decode cX4_caulkIt 34 = .ok (.invokestatic 58, 3) := dk_184 0 58 (dk_at dksX4_caulkIt_1 10 rfl rfl)
theorem dX4_caulkIt_37 : decode cX4_caulkIt 37 = .ok (.bipush 20, 2) := dk_16 20 (dk_at dksX4_caulkIt_1 13 rfl rfl)
theorem dX4_caulkIt_39 : decode cX4_caulkIt 39 = .ok (.iadd, 1) := dk_96 (dk_at dksX4_caulkIt_1 15 rfl rfl)
theorem dX4_caulkIt_40 : decode cX4_caulkIt 40 = .ok (.iload_n 2, 1) := dk_28 (dk_at dksX4_caulkIt_1 16 rfl rfl)
theorem dX4_caulkIt_41 : decode cX4_caulkIt 41 = .ok (.iadd, 1) := dk_96 (dk_at dksX4_caulkIt_1 17 rfl rfl)
theorem dX4_caulkIt_42 : decode cX4_caulkIt 42 = .ok (.iaload, 1) := dk_46 (dk_at dksX4_caulkIt_1 18 rfl rfl)
theorem dX4_caulkIt_43 : decode cX4_caulkIt 43 = .ok (.istore_n 3, 1) := dk_62 (dk_at dksX4_caulkIt_1 19 rfl rfl)
theorem dX4_caulkIt_44 : decode cX4_caulkIt 44 = .ok (.aload_n 0, 1) := dk_42 (dk_at dksX4_caulkIt_1 20 rfl rfl)
theorem dX4_caulkIt_45 : decode cX4_caulkIt 45 = .ok (.getfield 9, 3) := dk_180 0 9 (dk_at dksX4_caulkIt_1 21 rfl rfl)
theorem dX4_caulkIt_48 : decode cX4_caulkIt 48 = .ok (.iload_n 1, 1) := dk_27 (dk_at dksX4_caulkIt_2 0 rfl rfl)
theorem dX4_caulkIt_49 : decode cX4_caulkIt 49 = .ok (.invokestatic 58, 3) := dk_184 0 58 (dk_at dksX4_caulkIt_2 1 rfl rfl)
theorem dX4_caulkIt_52 : decode cX4_caulkIt 52 = .ok (.bipush 20, 2) := dk_16 20 (dk_at dksX4_caulkIt_2 4 rfl rfl)
theorem dX4_caulkIt_54 : decode cX4_caulkIt 54 = .ok (.iadd, 1) := dk_96 (dk_at dksX4_caulkIt_2 6 rfl rfl)
theorem dX4_caulkIt_55 : decode cX4_caulkIt 55 = .ok (.iload_n 2, 1) := dk_28 (dk_at dksX4_caulkIt_2 7 rfl rfl)
theorem dX4_caulkIt_56 : decode cX4_caulkIt 56 = .ok (.iadd, 1) := dk_96 (dk_at dksX4_caulkIt_2 8 rfl rfl)
theorem dX4_caulkIt_57 : decode cX4_caulkIt 57 = .ok (.bipush 9, 2) := dk_16 9 (dk_at dksX4_caulkIt_2 9 rfl rfl)
theorem dX4_caulkIt_59 : decode cX4_caulkIt 59 = .ok (.iastore, 1) := dk_79 (dk_at dksX4_caulkIt_2 11 rfl rfl)
theorem dX4_caulkIt_60 : decode cX4_caulkIt 60 = .ok (.iload_n 3, 1) := dk_29 (dk_at dksX4_caulkIt_2 12 rfl rfl)
theorem dX4_caulkIt_61 : decode cX4_caulkIt 61 = .ok (.ireturn, 1) := dk_172 (dk_at dksX4_caulkIt_2 13 rfl rfl)
def dkwX4_isSeam_1 : List UInt8 := [153, 0, 7, 4, 167, 0, 4, 3, 172]
abbrev dktX4_isSeam_1 : List UInt8 := dkwX4_isSeam_1 ++ []
def dkwX4_isSeam_0 : List UInt8 := [42, 27, 182, 0, 84, 153, 0, 24, 28, 133, 9, 42, 27, 182, 0, 78, 4, 100, 133, 184, 0, 54]
abbrev dktX4_isSeam_0 : List UInt8 := dkwX4_isSeam_0 ++ dktX4_isSeam_1
theorem dksX4_isSeam_0 : cX4_isSeam.data.toList.drop 0 = dktX4_isSeam_0 := by decide +kernel
theorem dksX4_isSeam_1 : cX4_isSeam.data.toList.drop 22 = dktX4_isSeam_1 := dk_seg dksX4_isSeam_0 22 rfl rfl
theorem dX4_isSeam_0 : decode cX4_isSeam 0 = .ok (.aload_n 0, 1) := dk_42 (dk_at dksX4_isSeam_0 0 rfl rfl)
theorem dX4_isSeam_1 : decode cX4_isSeam 1 = .ok (.iload_n 1, 1) := dk_27 (dk_at dksX4_isSeam_0 1 rfl rfl)
theorem dX4_isSeam_2 : decode cX4_isSeam 2 = .ok (.invokevirtual 84, 3) := dk_182 0 84 (dk_at dksX4_isSeam_0 2 rfl rfl)
theorem dX4_isSeam_5 : decode cX4_isSeam 5 = .ok (.ifCond .eq 24, 3) := dk_153 0 24 (dk_at dksX4_isSeam_0 5 rfl rfl)
theorem dX4_isSeam_8 : decode cX4_isSeam 8 = .ok (.iload_n 2, 1) := dk_28 (dk_at dksX4_isSeam_0 8 rfl rfl)
theorem dX4_isSeam_9 : decode cX4_isSeam 9 = .ok (.i2l, 1) := dk_133 (dk_at dksX4_isSeam_0 9 rfl rfl)
theorem dX4_isSeam_10 : decode cX4_isSeam 10 = .ok (.lconst 0, 1) := dk_9 (dk_at dksX4_isSeam_0 10 rfl rfl)
theorem dX4_isSeam_11 : decode cX4_isSeam 11 = .ok (.aload_n 0, 1) := dk_42 (dk_at dksX4_isSeam_0 11 rfl rfl)
theorem dX4_isSeam_12 : decode cX4_isSeam 12 = .ok (.iload_n 1, 1) := dk_27 (dk_at dksX4_isSeam_0 12 rfl rfl)
theorem dX4_isSeam_13 : decode cX4_isSeam 13 = .ok (.invokevirtual 78, 3) := dk_182 0 78 (dk_at dksX4_isSeam_0 13 rfl rfl)
theorem dX4_isSeam_16 : decode cX4_isSeam 16 = .ok (.iconst 1, 1) := dk_4 (dk_at dksX4_isSeam_0 16 rfl rfl)
theorem dX4_isSeam_17 : decode cX4_isSeam 17 = .ok (.isub, 1) := dk_100 (dk_at dksX4_isSeam_0 17 rfl rfl)
theorem dX4_isSeam_18 : decode cX4_isSeam 18 = .ok (.i2l, 1) := dk_133 (dk_at dksX4_isSeam_0 18 rfl rfl)
theorem dX4_isSeam_19 : decode cX4_isSeam 19 = .ok (.invokestatic 54, 3) := dk_184 0 54 (dk_at dksX4_isSeam_0 19 rfl rfl)
theorem dX4_isSeam_22 : decode cX4_isSeam 22 = .ok (.ifCond .eq 7, 3) := dk_153 0 7 (dk_at dksX4_isSeam_1 0 rfl rfl)
theorem dX4_isSeam_25 : decode cX4_isSeam 25 = .ok (.iconst 1, 1) := dk_4 (dk_at dksX4_isSeam_1 3 rfl rfl)
theorem dX4_isSeam_26 : decode cX4_isSeam 26 = .ok (.goto 4, 3) := dk_167 0 4 (dk_at dksX4_isSeam_1 4 rfl rfl)
theorem dX4_isSeam_29 : decode cX4_isSeam 29 = .ok (.iconst 0, 1) := dk_3 (dk_at dksX4_isSeam_1 7 rfl rfl)
theorem dX4_isSeam_30 : decode cX4_isSeam 30 = .ok (.ireturn, 1) := dk_172 (dk_at dksX4_isSeam_1 8 rfl rfl)
def dkwX4_pump_0 : List UInt8 := [42, 182, 0, 91, 42, 42, 27, 28, 182, 0, 139, 182, 0, 98, 172]
abbrev dktX4_pump_0 : List UInt8 := dkwX4_pump_0 ++ []
theorem dksX4_pump_0 : cX4_pump.data.toList.drop 0 = dktX4_pump_0 := by decide +kernel
theorem dX4_pump_0 : decode cX4_pump 0 = .ok (.aload_n 0, 1) := dk_42 (dk_at dksX4_pump_0 0 rfl rfl)
theorem dX4_pump_1 : decode cX4_pump 1 = .ok (.invokevirtual 91, 3) := dk_182 0 91 (dk_at dksX4_pump_0 1 rfl rfl)
theorem dX4_pump_4 : decode cX4_pump 4 = .ok (.aload_n 0, 1) := dk_42 (dk_at dksX4_pump_0 4 rfl rfl)
theorem dX4_pump_5 : decode cX4_pump 5 = .ok (.aload_n 0, 1) := dk_42 (dk_at dksX4_pump_0 5 rfl rfl)
theorem dX4_pump_6 : decode cX4_pump 6 = .ok (.iload_n 1, 1) := dk_27 (dk_at dksX4_pump_0 6 rfl rfl)
theorem dX4_pump_7 : decode cX4_pump 7 = .ok (.iload_n 2, 1) := dk_28 (dk_at dksX4_pump_0 7 rfl rfl)
theorem dX4_pump_8 : decode cX4_pump 8 = .ok (.invokevirtual 139, 3) := dk_182 0 139 (dk_at dksX4_pump_0 8 rfl rfl)
theorem dX4_pump_11 : decode cX4_pump 11 = .ok (.invokevirtual 98, 3) := dk_182 0 98 (dk_at dksX4_pump_0 11 rfl rfl)
theorem dX4_pump_14 : decode cX4_pump 14 = .ok (.ireturn, 1) := dk_172 (dk_at dksX4_pump_0 14 rfl rfl)
def dkwX4_pumpIt_3 : List UInt8 := [184, 0, 65, 79, 42, 180, 0, 9, 27, 184, 0, 58, 6, 96, 46, 172]
abbrev dktX4_pumpIt_3 : List UInt8 := dkwX4_pumpIt_3 ++ []
def dkwX4_pumpIt_2 : List UInt8 := [42, 180, 0, 9, 27, 184, 0, 58, 6, 96, 3, 42, 180, 0, 9, 27, 184, 0, 58, 6, 96, 46, 28, 100]
abbrev dktX4_pumpIt_2 : List UInt8 := dkwX4_pumpIt_2 ++ dktX4_pumpIt_3
def dkwX4_pumpIt_1 : List UInt8 := [154, 0, 9, 42, 5, 182, 0, 88, 172, 42, 27, 182, 0, 81, 4, 159, 0, 9, 42, 6, 182, 0, 88, 172]
abbrev dktX4_pumpIt_1 : List UInt8 := dkwX4_pumpIt_1 ++ dktX4_pumpIt_2
def dkwX4_pumpIt_0 : List UInt8 := [42, 27, 182, 0, 84, 154, 0, 9, 42, 4, 182, 0, 88, 172, 28, 133, 10, 20, 0, 109, 184, 0, 54]
abbrev dktX4_pumpIt_0 : List UInt8 := dkwX4_pumpIt_0 ++ dktX4_pumpIt_1
theorem dksX4_pumpIt_0 : cX4_pumpIt.data.toList.drop 0 = dktX4_pumpIt_0 := by decide +kernel
theorem dksX4_pumpIt_1 : cX4_pumpIt.data.toList.drop 23 = dktX4_pumpIt_1 := dk_seg dksX4_pumpIt_0 23 rfl rfl
theorem dksX4_pumpIt_2 : cX4_pumpIt.data.toList.drop 47 = dktX4_pumpIt_2 := dk_seg dksX4_pumpIt_1 24 rfl rfl
theorem dksX4_pumpIt_3 : cX4_pumpIt.data.toList.drop 71 = dktX4_pumpIt_3 := dk_seg dksX4_pumpIt_2 24 rfl rfl
theorem dX4_pumpIt_0 : decode cX4_pumpIt 0 = .ok (.aload_n 0, 1) := dk_42 (dk_at dksX4_pumpIt_0 0 rfl rfl)
theorem dX4_pumpIt_1 : decode cX4_pumpIt 1 = .ok (.iload_n 1, 1) := dk_27 (dk_at dksX4_pumpIt_0 1 rfl rfl)
theorem dX4_pumpIt_2 : decode cX4_pumpIt 2 = .ok (.invokevirtual 84, 3) := dk_182 0 84 (dk_at dksX4_pumpIt_0 2 rfl rfl)
theorem dX4_pumpIt_5 : decode cX4_pumpIt 5 = .ok (.ifCond .ne 9, 3) := dk_154 0 9 (dk_at dksX4_pumpIt_0 5 rfl rfl)
theorem dX4_pumpIt_8 : decode cX4_pumpIt 8 = .ok (.aload_n 0, 1) := dk_42 (dk_at dksX4_pumpIt_0 8 rfl rfl)
theorem dX4_pumpIt_9 : decode cX4_pumpIt 9 = .ok (.iconst 1, 1) := dk_4 (dk_at dksX4_pumpIt_0 9 rfl rfl)
theorem dX4_pumpIt_10 : decode cX4_pumpIt 10 = .ok (.invokevirtual 88, 3) := dk_182 0 88 (dk_at dksX4_pumpIt_0 10 rfl rfl)
theorem dX4_pumpIt_13 : decode cX4_pumpIt 13 = .ok (.ireturn, 1) := dk_172 (dk_at dksX4_pumpIt_0 13 rfl rfl)
theorem dX4_pumpIt_14 : decode cX4_pumpIt 14 = .ok (.iload_n 2, 1) := dk_28 (dk_at dksX4_pumpIt_0 14 rfl rfl)
theorem dX4_pumpIt_15 : decode cX4_pumpIt 15 = .ok (.i2l, 1) := dk_133 (dk_at dksX4_pumpIt_0 15 rfl rfl)
theorem dX4_pumpIt_16 : decode cX4_pumpIt 16 = .ok (.lconst 1, 1) := dk_10 (dk_at dksX4_pumpIt_0 16 rfl rfl)
theorem dX4_pumpIt_17 : decode cX4_pumpIt 17 = .ok (.ldc2_w 109, 3) := dk_20 0 109 (dk_at dksX4_pumpIt_0 17 rfl rfl)
theorem dX4_pumpIt_20 : decode cX4_pumpIt 20 = .ok (.invokestatic 54, 3) := dk_184 0 54 (dk_at dksX4_pumpIt_0 20 rfl rfl)
theorem dX4_pumpIt_23 : decode cX4_pumpIt 23 = .ok (.ifCond .ne 9, 3) := dk_154 0 9 (dk_at dksX4_pumpIt_1 0 rfl rfl)
theorem dX4_pumpIt_26 : decode cX4_pumpIt 26 = .ok (.aload_n 0, 1) := dk_42 (dk_at dksX4_pumpIt_1 3 rfl rfl)
theorem dX4_pumpIt_27 : decode cX4_pumpIt 27 = .ok (.iconst 2, 1) := dk_5 (dk_at dksX4_pumpIt_1 4 rfl rfl)
theorem dX4_pumpIt_28 : decode cX4_pumpIt 28 = .ok (.invokevirtual 88, 3) := dk_182 0 88 (dk_at dksX4_pumpIt_1 5 rfl rfl)
theorem dX4_pumpIt_31 : decode cX4_pumpIt 31 = .ok (.ireturn, 1) := dk_172 (dk_at dksX4_pumpIt_1 8 rfl rfl)
theorem dX4_pumpIt_32 : decode cX4_pumpIt 32 = .ok (.aload_n 0, 1) := dk_42 (dk_at dksX4_pumpIt_1 9 rfl rfl)
theorem dX4_pumpIt_33 : decode cX4_pumpIt 33 = .ok (.iload_n 1, 1) := dk_27 (dk_at dksX4_pumpIt_1 10 rfl rfl)
theorem dX4_pumpIt_34 : decode cX4_pumpIt 34 = .ok (.invokevirtual 81, 3) := dk_182 0 81 (dk_at dksX4_pumpIt_1 11 rfl rfl)
theorem dX4_pumpIt_37 : decode cX4_pumpIt 37 = .ok (.iconst 1, 1) := dk_4 (dk_at dksX4_pumpIt_1 14 rfl rfl)
theorem dX4_pumpIt_38 : decode cX4_pumpIt 38 = .ok (.if_icmp .eq 9, 3) := dk_159 0 9 (dk_at dksX4_pumpIt_1 15 rfl rfl)
theorem dX4_pumpIt_41 : decode cX4_pumpIt 41 = .ok (.aload_n 0, 1) := dk_42 (dk_at dksX4_pumpIt_1 18 rfl rfl)
theorem dX4_pumpIt_42 : decode cX4_pumpIt 42 = .ok (.iconst 3, 1) := dk_6 (dk_at dksX4_pumpIt_1 19 rfl rfl)
theorem dX4_pumpIt_43 : decode cX4_pumpIt 43 = .ok (.invokevirtual 88, 3) := dk_182 0 88 (dk_at dksX4_pumpIt_1 20 rfl rfl)
theorem dX4_pumpIt_46 : decode cX4_pumpIt 46 = .ok (.ireturn, 1) := dk_172 (dk_at dksX4_pumpIt_1 23 rfl rfl)
theorem dX4_pumpIt_47 : decode cX4_pumpIt 47 = .ok (.aload_n 0, 1) := dk_42 (dk_at dksX4_pumpIt_2 0 rfl rfl)
theorem dX4_pumpIt_48 : decode cX4_pumpIt 48 = .ok (.getfield 9, 3) := dk_180 0 9 (dk_at dksX4_pumpIt_2 1 rfl rfl)
theorem dX4_pumpIt_51 : decode cX4_pumpIt 51 = .ok (.iload_n 1, 1) := dk_27 (dk_at dksX4_pumpIt_2 4 rfl rfl)
theorem dX4_pumpIt_52 : decode cX4_pumpIt 52 = .ok (.invokestatic 58, 3) := dk_184 0 58 (dk_at dksX4_pumpIt_2 5 rfl rfl)
theorem dX4_pumpIt_55 : decode cX4_pumpIt 55 = .ok (.iconst 3, 1) := dk_6 (dk_at dksX4_pumpIt_2 8 rfl rfl)
theorem dX4_pumpIt_56 : decode cX4_pumpIt 56 = .ok (.iadd, 1) := dk_96 (dk_at dksX4_pumpIt_2 9 rfl rfl)
theorem dX4_pumpIt_57 : decode cX4_pumpIt 57 = .ok (.iconst 0, 1) := dk_3 (dk_at dksX4_pumpIt_2 10 rfl rfl)
theorem dX4_pumpIt_58 : decode cX4_pumpIt 58 = .ok (.aload_n 0, 1) := dk_42 (dk_at dksX4_pumpIt_2 11 rfl rfl)
theorem dX4_pumpIt_59 : decode cX4_pumpIt 59 = .ok (.getfield 9, 3) := dk_180 0 9 (dk_at dksX4_pumpIt_2 12 rfl rfl)
theorem dX4_pumpIt_62 : decode cX4_pumpIt 62 = .ok (.iload_n 1, 1) := dk_27 (dk_at dksX4_pumpIt_2 15 rfl rfl)
theorem dX4_pumpIt_63 : decode cX4_pumpIt 63 = .ok (.invokestatic 58, 3) := dk_184 0 58 (dk_at dksX4_pumpIt_2 16 rfl rfl)
theorem dX4_pumpIt_66 : decode cX4_pumpIt 66 = .ok (.iconst 3, 1) := dk_6 (dk_at dksX4_pumpIt_2 19 rfl rfl)
theorem dX4_pumpIt_67 : decode cX4_pumpIt 67 = .ok (.iadd, 1) := dk_96 (dk_at dksX4_pumpIt_2 20 rfl rfl)
theorem dX4_pumpIt_68 : decode cX4_pumpIt 68 = .ok (.iaload, 1) := dk_46 (dk_at dksX4_pumpIt_2 21 rfl rfl)
theorem dX4_pumpIt_69 : decode cX4_pumpIt 69 = .ok (.iload_n 2, 1) := dk_28 (dk_at dksX4_pumpIt_2 22 rfl rfl)
theorem dX4_pumpIt_70 : decode cX4_pumpIt 70 = .ok (.isub, 1) := dk_100 (dk_at dksX4_pumpIt_2 23 rfl rfl)
theorem dX4_pumpIt_71 : decode cX4_pumpIt 71 = .ok (.invokestatic 65, 3) := dk_184 0 65 (dk_at dksX4_pumpIt_3 0 rfl rfl)
theorem dX4_pumpIt_74 : decode cX4_pumpIt 74 = .ok (.iastore, 1) := dk_79 (dk_at dksX4_pumpIt_3 3 rfl rfl)
theorem dX4_pumpIt_75 : decode cX4_pumpIt 75 = .ok (.aload_n 0, 1) := dk_42 (dk_at dksX4_pumpIt_3 4 rfl rfl)
theorem dX4_pumpIt_76 : decode cX4_pumpIt 76 = .ok (.getfield 9, 3) := dk_180 0 9 (dk_at dksX4_pumpIt_3 5 rfl rfl)
theorem dX4_pumpIt_79 : decode cX4_pumpIt 79 = .ok (.iload_n 1, 1) := dk_27 (dk_at dksX4_pumpIt_3 8 rfl rfl)
theorem dX4_pumpIt_80 : decode cX4_pumpIt 80 = .ok (.invokestatic 58, 3) := dk_184 0 58 (dk_at dksX4_pumpIt_3 9 rfl rfl)
theorem dX4_pumpIt_83 : decode cX4_pumpIt 83 = .ok (.iconst 3, 1) := dk_6 (dk_at dksX4_pumpIt_3 12 rfl rfl)
theorem dX4_pumpIt_84 : decode cX4_pumpIt 84 = .ok (.iadd, 1) := dk_96 (dk_at dksX4_pumpIt_3 13 rfl rfl)
theorem dX4_pumpIt_85 : decode cX4_pumpIt 85 = .ok (.iaload, 1) := dk_46 (dk_at dksX4_pumpIt_3 14 rfl rfl)
theorem dX4_pumpIt_86 : decode cX4_pumpIt 86 = .ok (.ireturn, 1) := dk_172 (dk_at dksX4_pumpIt_3 15 rfl rfl)
def dkwX4_setTide_0 : List UInt8 := [42, 182, 0, 91, 42, 42, 27, 28, 182, 0, 146, 182, 0, 98, 172]
abbrev dktX4_setTide_0 : List UInt8 := dkwX4_setTide_0 ++ []
theorem dksX4_setTide_0 : cX4_setTide.data.toList.drop 0 = dktX4_setTide_0 := by decide +kernel
theorem dX4_setTide_0 : decode cX4_setTide 0 = .ok (.aload_n 0, 1) := dk_42 (dk_at dksX4_setTide_0 0 rfl rfl)
theorem dX4_setTide_1 : decode cX4_setTide 1 = .ok (.invokevirtual 91, 3) := dk_182 0 91 (dk_at dksX4_setTide_0 1 rfl rfl)
theorem dX4_setTide_4 : decode cX4_setTide 4 = .ok (.aload_n 0, 1) := dk_42 (dk_at dksX4_setTide_0 4 rfl rfl)
theorem dX4_setTide_5 : decode cX4_setTide 5 = .ok (.aload_n 0, 1) := dk_42 (dk_at dksX4_setTide_0 5 rfl rfl)
theorem dX4_setTide_6 : decode cX4_setTide 6 = .ok (.iload_n 1, 1) := dk_27 (dk_at dksX4_setTide_0 6 rfl rfl)
theorem dX4_setTide_7 : decode cX4_setTide 7 = .ok (.iload_n 2, 1) := dk_28 (dk_at dksX4_setTide_0 7 rfl rfl)
theorem dX4_setTide_8 : decode cX4_setTide 8 = .ok (.invokevirtual 146, 3) := dk_182 0 146 (dk_at dksX4_setTide_0 8 rfl rfl)
theorem dX4_setTide_11 : decode cX4_setTide 11 = .ok (.invokevirtual 98, 3) := dk_182 0 98 (dk_at dksX4_setTide_0 11 rfl rfl)
theorem dX4_setTide_14 : decode cX4_setTide 14 = .ok (.ireturn, 1) := dk_172 (dk_at dksX4_setTide_0 14 rfl rfl)
def dkwX4_tideIt_2 : List UInt8 := [29, 172]
abbrev dktX4_tideIt_2 : List UInt8 := dkwX4_tideIt_2 ++ []
def dkwX4_tideIt_1 : List UInt8 := [42, 4, 182, 0, 88, 172, 42, 180, 0, 9, 8, 27, 96, 46, 62, 42, 180, 0, 9, 8, 27, 96, 28, 79]
abbrev dktX4_tideIt_1 : List UInt8 := dkwX4_tideIt_1 ++ dktX4_tideIt_2
def dkwX4_tideIt_0 : List UInt8 := [27, 133, 9, 20, 0, 142, 184, 0, 54, 153, 0, 15, 28, 133, 9, 20, 0, 144, 184, 0, 54, 154, 0, 9]
abbrev dktX4_tideIt_0 : List UInt8 := dkwX4_tideIt_0 ++ dktX4_tideIt_1
theorem dksX4_tideIt_0 : cX4_tideIt.data.toList.drop 0 = dktX4_tideIt_0 := by decide +kernel
theorem dksX4_tideIt_1 : cX4_tideIt.data.toList.drop 24 = dktX4_tideIt_1 := dk_seg dksX4_tideIt_0 24 rfl rfl
theorem dksX4_tideIt_2 : cX4_tideIt.data.toList.drop 48 = dktX4_tideIt_2 := dk_seg dksX4_tideIt_1 24 rfl rfl
theorem dX4_tideIt_0 : decode cX4_tideIt 0 = .ok (.iload_n 1, 1) := dk_27 (dk_at dksX4_tideIt_0 0 rfl rfl)
theorem dX4_tideIt_1 : decode cX4_tideIt 1 = .ok (.i2l, 1) := dk_133 (dk_at dksX4_tideIt_0 1 rfl rfl)
theorem dX4_tideIt_2 : decode cX4_tideIt 2 = .ok (.lconst 0, 1) := dk_9 (dk_at dksX4_tideIt_0 2 rfl rfl)
theorem dX4_tideIt_3 : decode cX4_tideIt 3 = .ok (.ldc2_w 142, 3) := dk_20 0 142 (dk_at dksX4_tideIt_0 3 rfl rfl)
theorem dX4_tideIt_6 : decode cX4_tideIt 6 = .ok (.invokestatic 54, 3) := dk_184 0 54 (dk_at dksX4_tideIt_0 6 rfl rfl)
theorem dX4_tideIt_9 : decode cX4_tideIt 9 = .ok (.ifCond .eq 15, 3) := dk_153 0 15 (dk_at dksX4_tideIt_0 9 rfl rfl)
theorem dX4_tideIt_12 : decode cX4_tideIt 12 = .ok (.iload_n 2, 1) := dk_28 (dk_at dksX4_tideIt_0 12 rfl rfl)
theorem dX4_tideIt_13 : decode cX4_tideIt 13 = .ok (.i2l, 1) := dk_133 (dk_at dksX4_tideIt_0 13 rfl rfl)
theorem dX4_tideIt_14 : decode cX4_tideIt 14 = .ok (.lconst 0, 1) := dk_9 (dk_at dksX4_tideIt_0 14 rfl rfl)
theorem dX4_tideIt_15 : decode cX4_tideIt 15 = .ok (.ldc2_w 144, 3) := dk_20 0 144 (dk_at dksX4_tideIt_0 15 rfl rfl)
theorem dX4_tideIt_18 : decode cX4_tideIt 18 = .ok (.invokestatic 54, 3) := dk_184 0 54 (dk_at dksX4_tideIt_0 18 rfl rfl)
theorem dX4_tideIt_21 : decode cX4_tideIt 21 = .ok (.ifCond .ne 9, 3) := dk_154 0 9 (dk_at dksX4_tideIt_0 21 rfl rfl)
theorem dX4_tideIt_24 : decode cX4_tideIt 24 = .ok (.aload_n 0, 1) := dk_42 (dk_at dksX4_tideIt_1 0 rfl rfl)
theorem dX4_tideIt_25 : decode cX4_tideIt 25 = .ok (.iconst 1, 1) := dk_4 (dk_at dksX4_tideIt_1 1 rfl rfl)
theorem dX4_tideIt_26 : decode cX4_tideIt 26 = .ok (.invokevirtual 88, 3) := dk_182 0 88 (dk_at dksX4_tideIt_1 2 rfl rfl)
theorem dX4_tideIt_29 : decode cX4_tideIt 29 = .ok (.ireturn, 1) := dk_172 (dk_at dksX4_tideIt_1 5 rfl rfl)
theorem dX4_tideIt_30 : decode cX4_tideIt 30 = .ok (.aload_n 0, 1) := dk_42 (dk_at dksX4_tideIt_1 6 rfl rfl)
theorem dX4_tideIt_31 : decode cX4_tideIt 31 = .ok (.getfield 9, 3) := dk_180 0 9 (dk_at dksX4_tideIt_1 7 rfl rfl)
theorem dX4_tideIt_34 : decode cX4_tideIt 34 = .ok (.iconst 5, 1) := dk_8 (dk_at dksX4_tideIt_1 10 rfl rfl)
theorem dX4_tideIt_35 : decode cX4_tideIt 35 = .ok (.iload_n 1, 1) := dk_27 (dk_at dksX4_tideIt_1 11 rfl rfl)
theorem dX4_tideIt_36 : decode cX4_tideIt 36 = .ok (.iadd, 1) := dk_96 (dk_at dksX4_tideIt_1 12 rfl rfl)
theorem dX4_tideIt_37 : decode cX4_tideIt 37 = .ok (.iaload, 1) := dk_46 (dk_at dksX4_tideIt_1 13 rfl rfl)
theorem dX4_tideIt_38 : decode cX4_tideIt 38 = .ok (.istore_n 3, 1) := dk_62 (dk_at dksX4_tideIt_1 14 rfl rfl)
theorem dX4_tideIt_39 : decode cX4_tideIt 39 = .ok (.aload_n 0, 1) := dk_42 (dk_at dksX4_tideIt_1 15 rfl rfl)
theorem dX4_tideIt_40 : decode cX4_tideIt 40 = .ok (.getfield 9, 3) := dk_180 0 9 (dk_at dksX4_tideIt_1 16 rfl rfl)
theorem dX4_tideIt_43 : decode cX4_tideIt 43 = .ok (.iconst 5, 1) := dk_8 (dk_at dksX4_tideIt_1 19 rfl rfl)
theorem dX4_tideIt_44 : decode cX4_tideIt 44 = .ok (.iload_n 1, 1) := dk_27 (dk_at dksX4_tideIt_1 20 rfl rfl)
theorem dX4_tideIt_45 : decode cX4_tideIt 45 = .ok (.iadd, 1) := dk_96 (dk_at dksX4_tideIt_1 21 rfl rfl)
theorem dX4_tideIt_46 : decode cX4_tideIt 46 = .ok (.iload_n 2, 1) := dk_28 (dk_at dksX4_tideIt_1 22 rfl rfl)
theorem dX4_tideIt_47 : decode cX4_tideIt 47 = .ok (.iastore, 1) := dk_79 (dk_at dksX4_tideIt_1 23 rfl rfl)
theorem dX4_tideIt_48 : decode cX4_tideIt 48 = .ok (.iload_n 3, 1) := dk_29 (dk_at dksX4_tideIt_2 0 rfl rfl)
theorem dX4_tideIt_49 : decode cX4_tideIt 49 = .ok (.ireturn, 1) := dk_172 (dk_at dksX4_tideIt_2 1 rfl rfl)
def dkwX4_pass_0 : List UInt8 := [42, 182, 0, 91, 42, 42, 27, 182, 0, 154, 182, 0, 98, 172]
abbrev dktX4_pass_0 : List UInt8 := dkwX4_pass_0 ++ []
theorem dksX4_pass_0 : cX4_pass.data.toList.drop 0 = dktX4_pass_0 := by decide +kernel
theorem dX4_pass_0 : decode cX4_pass 0 = .ok (.aload_n 0, 1) := dk_42 (dk_at dksX4_pass_0 0 rfl rfl)
theorem dX4_pass_1 : decode cX4_pass 1 = .ok (.invokevirtual 91, 3) := dk_182 0 91 (dk_at dksX4_pass_0 1 rfl rfl)
theorem dX4_pass_4 : decode cX4_pass 4 = .ok (.aload_n 0, 1) := dk_42 (dk_at dksX4_pass_0 4 rfl rfl)
theorem dX4_pass_5 : decode cX4_pass 5 = .ok (.aload_n 0, 1) := dk_42 (dk_at dksX4_pass_0 5 rfl rfl)
theorem dX4_pass_6 : decode cX4_pass 6 = .ok (.iload_n 1, 1) := dk_27 (dk_at dksX4_pass_0 6 rfl rfl)
theorem dX4_pass_7 : decode cX4_pass 7 = .ok (.invokevirtual 154, 3) := dk_182 0 154 (dk_at dksX4_pass_0 7 rfl rfl)
theorem dX4_pass_10 : decode cX4_pass 10 = .ok (.invokevirtual 98, 3) := dk_182 0 98 (dk_at dksX4_pass_0 10 rfl rfl)
theorem dX4_pass_13 : decode cX4_pass 13 = .ok (.ireturn, 1) := dk_172 (dk_at dksX4_pass_0 13 rfl rfl)
def dkwX4_hoursIt_1 : List UInt8 := [162, 0, 16, 28, 42, 182, 0, 151, 96, 61, 132, 3, 1, 167, 255, 241, 28, 172]
abbrev dktX4_hoursIt_1 : List UInt8 := dkwX4_hoursIt_1 ++ []
def dkwX4_hoursIt_0 : List UInt8 := [27, 133, 10, 20, 0, 149, 184, 0, 54, 154, 0, 9, 42, 4, 182, 0, 88, 172, 3, 61, 3, 62, 29, 27]
abbrev dktX4_hoursIt_0 : List UInt8 := dkwX4_hoursIt_0 ++ dktX4_hoursIt_1
theorem dksX4_hoursIt_0 : cX4_hoursIt.data.toList.drop 0 = dktX4_hoursIt_0 := by decide +kernel
theorem dksX4_hoursIt_1 : cX4_hoursIt.data.toList.drop 24 = dktX4_hoursIt_1 := dk_seg dksX4_hoursIt_0 24 rfl rfl
theorem dX4_hoursIt_0 : decode cX4_hoursIt 0 = .ok (.iload_n 1, 1) := dk_27 (dk_at dksX4_hoursIt_0 0 rfl rfl)
theorem dX4_hoursIt_1 : decode cX4_hoursIt 1 = .ok (.i2l, 1) := dk_133 (dk_at dksX4_hoursIt_0 1 rfl rfl)
theorem dX4_hoursIt_2 : decode cX4_hoursIt 2 = .ok (.lconst 1, 1) := dk_10 (dk_at dksX4_hoursIt_0 2 rfl rfl)
theorem dX4_hoursIt_3 : decode cX4_hoursIt 3 = .ok (.ldc2_w 149, 3) := dk_20 0 149 (dk_at dksX4_hoursIt_0 3 rfl rfl)
theorem dX4_hoursIt_6 : decode cX4_hoursIt 6 = .ok (.invokestatic 54, 3) := dk_184 0 54 (dk_at dksX4_hoursIt_0 6 rfl rfl)
theorem dX4_hoursIt_9 : decode cX4_hoursIt 9 = .ok (.ifCond .ne 9, 3) := dk_154 0 9 (dk_at dksX4_hoursIt_0 9 rfl rfl)
theorem dX4_hoursIt_12 : decode cX4_hoursIt 12 = .ok (.aload_n 0, 1) := dk_42 (dk_at dksX4_hoursIt_0 12 rfl rfl)
theorem dX4_hoursIt_13 : decode cX4_hoursIt 13 = .ok (.iconst 1, 1) := dk_4 (dk_at dksX4_hoursIt_0 13 rfl rfl)
theorem dX4_hoursIt_14 : decode cX4_hoursIt 14 = .ok (.invokevirtual 88, 3) := dk_182 0 88 (dk_at dksX4_hoursIt_0 14 rfl rfl)
theorem dX4_hoursIt_17 : decode cX4_hoursIt 17 = .ok (.ireturn, 1) := dk_172 (dk_at dksX4_hoursIt_0 17 rfl rfl)
theorem dX4_hoursIt_18 : decode cX4_hoursIt 18 = .ok (.iconst 0, 1) := dk_3 (dk_at dksX4_hoursIt_0 18 rfl rfl)
theorem dX4_hoursIt_19 : decode cX4_hoursIt 19 = .ok (.istore_n 2, 1) := dk_61 (dk_at dksX4_hoursIt_0 19 rfl rfl)
theorem dX4_hoursIt_20 : decode cX4_hoursIt 20 = .ok (.iconst 0, 1) := dk_3 (dk_at dksX4_hoursIt_0 20 rfl rfl)
theorem dX4_hoursIt_21 : decode cX4_hoursIt 21 = .ok (.istore_n 3, 1) := dk_62 (dk_at dksX4_hoursIt_0 21 rfl rfl)
theorem dX4_hoursIt_22 : decode cX4_hoursIt 22 = .ok (.iload_n 3, 1) := dk_29 (dk_at dksX4_hoursIt_0 22 rfl rfl)
theorem dX4_hoursIt_23 : decode cX4_hoursIt 23 = .ok (.iload_n 1, 1) := dk_27 (dk_at dksX4_hoursIt_0 23 rfl rfl)
theorem dX4_hoursIt_24 : decode cX4_hoursIt 24 = .ok (.if_icmp .ge 16, 3) := dk_162 0 16 (dk_at dksX4_hoursIt_1 0 rfl rfl)
theorem dX4_hoursIt_27 : decode cX4_hoursIt 27 = .ok (.iload_n 2, 1) := dk_28 (dk_at dksX4_hoursIt_1 3 rfl rfl)
theorem dX4_hoursIt_28 : decode cX4_hoursIt 28 = .ok (.aload_n 0, 1) := dk_42 (dk_at dksX4_hoursIt_1 4 rfl rfl)
theorem dX4_hoursIt_29 : decode cX4_hoursIt 29 = .ok (.invokevirtual 151, 3) := dk_182 0 151 (dk_at dksX4_hoursIt_1 5 rfl rfl)
theorem dX4_hoursIt_32 : decode cX4_hoursIt 32 = .ok (.iadd, 1) := dk_96 (dk_at dksX4_hoursIt_1 8 rfl rfl)
theorem dX4_hoursIt_33 : decode cX4_hoursIt 33 = .ok (.istore_n 2, 1) := dk_61 (dk_at dksX4_hoursIt_1 9 rfl rfl)
theorem dX4_hoursIt_34 : decode cX4_hoursIt 34 = .ok (.iinc 3 1, 3) := dk_132 3 1 (dk_at dksX4_hoursIt_1 10 rfl rfl)
theorem dX4_hoursIt_37 : decode cX4_hoursIt 37 = .ok (.goto (-15), 3) := dk_167 255 241 (dk_at dksX4_hoursIt_1 13 rfl rfl)
theorem dX4_hoursIt_40 : decode cX4_hoursIt 40 = .ok (.iload_n 2, 1) := dk_28 (dk_at dksX4_hoursIt_1 16 rfl rfl)
theorem dX4_hoursIt_41 : decode cX4_hoursIt 41 = .ok (.ireturn, 1) := dk_172 (dk_at dksX4_hoursIt_1 17 rfl rfl)
def dkwX4_passesHour_9 : List UInt8 := [180, 0, 9, 28, 184, 0, 58, 6, 79, 132, 1, 1, 132, 2, 1, 167, 255, 207, 27, 172]
abbrev dktX4_passesHour_9 : List UInt8 := dkwX4_passesHour_9 ++ []
def dkwX4_passesHour_8 : List UInt8 := [182, 0, 81, 4, 160, 0, 30, 42, 28, 42, 28, 182, 0, 117, 182, 0, 120, 2, 160, 0, 16, 42]
abbrev dktX4_passesHour_8 : List UInt8 := dkwX4_passesHour_8 ++ dktX4_passesHour_9
def dkwX4_passesHour_7 : List UInt8 := [167, 255, 189, 132, 2, 1, 167, 255, 171, 3, 61, 28, 42, 180, 0, 9, 3, 46, 162, 0, 45, 42, 28]
abbrev dktX4_passesHour_7 : List UInt8 := dkwX4_passesHour_7 ++ dktX4_passesHour_8
def dkwX4_passesHour_6 : List UInt8 := [3, 42, 180, 0, 9, 28, 184, 0, 58, 16, 20, 96, 29, 96, 46, 4, 100, 184, 0, 65, 79, 132, 3, 1]
abbrev dktX4_passesHour_6 : List UInt8 := dkwX4_passesHour_6 ++ dktX4_passesHour_7
def dkwX4_passesHour_5 : List UInt8 := [180, 0, 9, 4, 46, 16, 6, 112, 154, 0, 43, 42, 180, 0, 9, 28, 184, 0, 58, 16, 20, 96, 29, 96]
abbrev dktX4_passesHour_5 : List UInt8 := dkwX4_passesHour_5 ++ dktX4_passesHour_6
def dkwX4_passesHour_4 : List UInt8 := [162, 0, 81, 3, 62, 29, 42, 28, 182, 0, 78, 162, 0, 64, 42, 28, 182, 0, 81, 4, 160, 0, 55, 42]
abbrev dktX4_passesHour_4 : List UInt8 := dkwX4_passesHour_4 ++ dktX4_passesHour_5
def dkwX4_passesHour_3 : List UInt8 := [100, 96, 79, 132, 3, 1, 167, 255, 204, 132, 2, 1, 167, 255, 186, 3, 61, 28, 42, 180, 0, 9, 3, 46]
abbrev dktX4_passesHour_3 : List UInt8 := dkwX4_passesHour_3 ++ dktX4_passesHour_4
def dkwX4_passesHour_2 : List UInt8 := [28, 184, 0, 58, 6, 96, 92, 46, 16, 9, 42, 180, 0, 9, 28, 184, 0, 58, 16, 20, 96, 29, 96, 46]
abbrev dktX4_passesHour_2 : List UInt8 := dkwX4_passesHour_2 ++ dktX4_passesHour_3
def dkwX4_passesHour_1 : List UInt8 := [3, 62, 29, 42, 28, 182, 0, 78, 162, 0, 49, 42, 28, 182, 0, 81, 4, 160, 0, 40, 42, 180, 0, 9]
abbrev dktX4_passesHour_1 : List UInt8 := dkwX4_passesHour_1 ++ dktX4_passesHour_2
def dkwX4_passesHour_0 : List UInt8 := [42, 180, 0, 9, 4, 92, 46, 4, 96, 79, 3, 60, 3, 61, 28, 42, 180, 0, 9, 3, 46, 162, 0, 66]
abbrev dktX4_passesHour_0 : List UInt8 := dkwX4_passesHour_0 ++ dktX4_passesHour_1
theorem dksX4_passesHour_0 : cX4_passesHour.data.toList.drop 0 = dktX4_passesHour_0 := by decide +kernel
theorem dksX4_passesHour_1 : cX4_passesHour.data.toList.drop 24 = dktX4_passesHour_1 := dk_seg dksX4_passesHour_0 24 rfl rfl
theorem dksX4_passesHour_2 : cX4_passesHour.data.toList.drop 48 = dktX4_passesHour_2 := dk_seg dksX4_passesHour_1 24 rfl rfl
theorem dksX4_passesHour_3 : cX4_passesHour.data.toList.drop 72 = dktX4_passesHour_3 := dk_seg dksX4_passesHour_2 24 rfl rfl
theorem dksX4_passesHour_4 : cX4_passesHour.data.toList.drop 96 = dktX4_passesHour_4 := dk_seg dksX4_passesHour_3 24 rfl rfl
theorem dksX4_passesHour_5 : cX4_passesHour.data.toList.drop 120 = dktX4_passesHour_5 := dk_seg dksX4_passesHour_4 24 rfl rfl
theorem dksX4_passesHour_6 : cX4_passesHour.data.toList.drop 144 = dktX4_passesHour_6 := dk_seg dksX4_passesHour_5 24 rfl rfl
theorem dksX4_passesHour_7 : cX4_passesHour.data.toList.drop 168 = dktX4_passesHour_7 := dk_seg dksX4_passesHour_6 24 rfl rfl
theorem dksX4_passesHour_8 : cX4_passesHour.data.toList.drop 191 = dktX4_passesHour_8 := dk_seg dksX4_passesHour_7 23 rfl rfl
theorem dksX4_passesHour_9 : cX4_passesHour.data.toList.drop 213 = dktX4_passesHour_9 := dk_seg dksX4_passesHour_8 22 rfl rfl
theorem dX4_passesHour_0 : decode cX4_passesHour 0 = .ok (.aload_n 0, 1) := dk_42 (dk_at dksX4_passesHour_0 0 rfl rfl)
theorem dX4_passesHour_1 : decode cX4_passesHour 1 = .ok (.getfield 9, 3) := dk_180 0 9 (dk_at dksX4_passesHour_0 1 rfl rfl)
theorem dX4_passesHour_4 : decode cX4_passesHour 4 = .ok (.iconst 1, 1) := dk_4 (dk_at dksX4_passesHour_0 4 rfl rfl)
theorem dX4_passesHour_5 : decode cX4_passesHour 5 = .ok (.dup2, 1) := dk_92 (dk_at dksX4_passesHour_0 5 rfl rfl)
theorem dX4_passesHour_6 : decode cX4_passesHour 6 = .ok (.iaload, 1) := dk_46 (dk_at dksX4_passesHour_0 6 rfl rfl)
theorem dX4_passesHour_7 : decode cX4_passesHour 7 = .ok (.iconst 1, 1) := dk_4 (dk_at dksX4_passesHour_0 7 rfl rfl)
theorem dX4_passesHour_8 : decode cX4_passesHour 8 = .ok (.iadd, 1) := dk_96 (dk_at dksX4_passesHour_0 8 rfl rfl)
theorem dX4_passesHour_9 : decode cX4_passesHour 9 = .ok (.iastore, 1) := dk_79 (dk_at dksX4_passesHour_0 9 rfl rfl)
theorem dX4_passesHour_10 : decode cX4_passesHour 10 = .ok (.iconst 0, 1) := dk_3 (dk_at dksX4_passesHour_0 10 rfl rfl)
theorem dX4_passesHour_11 : decode cX4_passesHour 11 = .ok (.istore_n 1, 1) := dk_60 (dk_at dksX4_passesHour_0 11 rfl rfl)
theorem dX4_passesHour_12 : decode cX4_passesHour 12 = .ok (.iconst 0, 1) := dk_3 (dk_at dksX4_passesHour_0 12 rfl rfl)
theorem dX4_passesHour_13 : decode cX4_passesHour 13 = .ok (.istore_n 2, 1) := dk_61 (dk_at dksX4_passesHour_0 13 rfl rfl)
theorem dX4_passesHour_14 : decode cX4_passesHour 14 = .ok (.iload_n 2, 1) := dk_28 (dk_at dksX4_passesHour_0 14 rfl rfl)
theorem dX4_passesHour_15 : decode cX4_passesHour 15 = .ok (.aload_n 0, 1) := dk_42 (dk_at dksX4_passesHour_0 15 rfl rfl)
theorem dX4_passesHour_16 : decode cX4_passesHour 16 = .ok (.getfield 9, 3) := dk_180 0 9 (dk_at dksX4_passesHour_0 16 rfl rfl)
theorem dX4_passesHour_19 : decode cX4_passesHour 19 = .ok (.iconst 0, 1) := dk_3 (dk_at dksX4_passesHour_0 19 rfl rfl)
theorem dX4_passesHour_20 : decode cX4_passesHour 20 = .ok (.iaload, 1) := dk_46 (dk_at dksX4_passesHour_0 20 rfl rfl)
theorem dX4_passesHour_21 : decode cX4_passesHour 21 = .ok (.if_icmp .ge 66, 3) := dk_162 0 66 (dk_at dksX4_passesHour_0 21 rfl rfl)
theorem dX4_passesHour_24 : decode cX4_passesHour 24 = .ok (.iconst 0, 1) := dk_3 (dk_at dksX4_passesHour_1 0 rfl rfl)
theorem dX4_passesHour_25 : decode cX4_passesHour 25 = .ok (.istore_n 3, 1) := dk_62 (dk_at dksX4_passesHour_1 1 rfl rfl)
theorem dX4_passesHour_26 : decode cX4_passesHour 26 = .ok (.iload_n 3, 1) := dk_29 (dk_at dksX4_passesHour_1 2 rfl rfl)
theorem dX4_passesHour_27 : decode cX4_passesHour 27 = .ok (.aload_n 0, 1) := dk_42 (dk_at dksX4_passesHour_1 3 rfl rfl)
theorem dX4_passesHour_28 : decode cX4_passesHour 28 = .ok (.iload_n 2, 1) := dk_28 (dk_at dksX4_passesHour_1 4 rfl rfl)
theorem dX4_passesHour_29 : decode cX4_passesHour 29 = .ok (.invokevirtual 78, 3) := dk_182 0 78 (dk_at dksX4_passesHour_1 5 rfl rfl)
theorem dX4_passesHour_32 : decode cX4_passesHour 32 = .ok (.if_icmp .ge 49, 3) := dk_162 0 49 (dk_at dksX4_passesHour_1 8 rfl rfl)
theorem dX4_passesHour_35 : decode cX4_passesHour 35 = .ok (.aload_n 0, 1) := dk_42 (dk_at dksX4_passesHour_1 11 rfl rfl)
theorem dX4_passesHour_36 : decode cX4_passesHour 36 = .ok (.iload_n 2, 1) := dk_28 (dk_at dksX4_passesHour_1 12 rfl rfl)
theorem dX4_passesHour_37 : decode cX4_passesHour 37 = .ok (.invokevirtual 81, 3) := dk_182 0 81 (dk_at dksX4_passesHour_1 13 rfl rfl)
theorem dX4_passesHour_40 : decode cX4_passesHour 40 = .ok (.iconst 1, 1) := dk_4 (dk_at dksX4_passesHour_1 16 rfl rfl)
theorem dX4_passesHour_41 : decode cX4_passesHour 41 = .ok (.if_icmp .ne 40, 3) := dk_160 0 40 (dk_at dksX4_passesHour_1 17 rfl rfl)
theorem dX4_passesHour_44 : decode cX4_passesHour 44 = .ok (.aload_n 0, 1) := dk_42 (dk_at dksX4_passesHour_1 20 rfl rfl)
theorem dX4_passesHour_45 : decode cX4_passesHour 45 = .ok (.getfield 9, 3) := dk_180 0 9 (dk_at dksX4_passesHour_1 21 rfl rfl)
theorem dX4_passesHour_48 : decode cX4_passesHour 48 = .ok (.iload_n 2, 1) := dk_28 (dk_at dksX4_passesHour_2 0 rfl rfl)
theorem dX4_passesHour_49 : decode cX4_passesHour 49 = .ok (.invokestatic 58, 3) := dk_184 0 58 (dk_at dksX4_passesHour_2 1 rfl rfl)
theorem dX4_passesHour_52 : decode cX4_passesHour 52 = .ok (.iconst 3, 1) := dk_6 (dk_at dksX4_passesHour_2 4 rfl rfl)
theorem dX4_passesHour_53 : decode cX4_passesHour 53 = .ok (.iadd, 1) := dk_96 (dk_at dksX4_passesHour_2 5 rfl rfl)
theorem dX4_passesHour_54 : decode cX4_passesHour 54 = .ok (.dup2, 1) := dk_92 (dk_at dksX4_passesHour_2 6 rfl rfl)
theorem dX4_passesHour_55 : decode cX4_passesHour 55 = .ok (.iaload, 1) := dk_46 (dk_at dksX4_passesHour_2 7 rfl rfl)
theorem dX4_passesHour_56 : decode cX4_passesHour 56 = .ok (.bipush 9, 2) := dk_16 9 (dk_at dksX4_passesHour_2 8 rfl rfl)
theorem dX4_passesHour_58 : decode cX4_passesHour 58 = .ok (.aload_n 0, 1) := dk_42 (dk_at dksX4_passesHour_2 10 rfl rfl)
theorem dX4_passesHour_59 : decode cX4_passesHour 59 = .ok (.getfield 9, 3) := dk_180 0 9 (dk_at dksX4_passesHour_2 11 rfl rfl)
theorem dX4_passesHour_62 : decode cX4_passesHour 62 = .ok (.iload_n 2, 1) := dk_28 (dk_at dksX4_passesHour_2 14 rfl rfl)
theorem dX4_passesHour_63 : decode cX4_passesHour 63 = .ok (.invokestatic 58, 3) := dk_184 0 58 (dk_at dksX4_passesHour_2 15 rfl rfl)
theorem dX4_passesHour_66 : decode cX4_passesHour 66 = .ok (.bipush 20, 2) := dk_16 20 (dk_at dksX4_passesHour_2 18 rfl rfl)
theorem dX4_passesHour_68 : decode cX4_passesHour 68 = .ok (.iadd, 1) := dk_96 (dk_at dksX4_passesHour_2 20 rfl rfl)
theorem dX4_passesHour_69 : decode cX4_passesHour 69 = .ok (.iload_n 3, 1) := dk_29 (dk_at dksX4_passesHour_2 21 rfl rfl)
theorem dX4_passesHour_70 : decode cX4_passesHour 70 = .ok (.iadd, 1) := dk_96 (dk_at dksX4_passesHour_2 22 rfl rfl)
theorem dX4_passesHour_71 : decode cX4_passesHour 71 = .ok (.iaload, 1) := dk_46 (dk_at dksX4_passesHour_2 23 rfl rfl)
theorem dX4_passesHour_72 : decode cX4_passesHour 72 = .ok (.isub, 1) := dk_100 (dk_at dksX4_passesHour_3 0 rfl rfl)
theorem dX4_passesHour_73 : decode cX4_passesHour 73 = .ok (.iadd, 1) := dk_96 (dk_at dksX4_passesHour_3 1 rfl rfl)
theorem dX4_passesHour_74 : decode cX4_passesHour 74 = .ok (.iastore, 1) := dk_79 (dk_at dksX4_passesHour_3 2 rfl rfl)
theorem dX4_passesHour_75 : decode cX4_passesHour 75 = .ok (.iinc 3 1, 3) := dk_132 3 1 (dk_at dksX4_passesHour_3 3 rfl rfl)
theorem dX4_passesHour_78 : decode cX4_passesHour 78 = .ok (.goto (-52), 3) := dk_167 255 204 (dk_at dksX4_passesHour_3 6 rfl rfl)
theorem dX4_passesHour_81 : decode cX4_passesHour 81 = .ok (.iinc 2 1, 3) := dk_132 2 1 (dk_at dksX4_passesHour_3 9 rfl rfl)
theorem dX4_passesHour_84 : decode cX4_passesHour 84 = .ok (.goto (-70), 3) := dk_167 255 186 (dk_at dksX4_passesHour_3 12 rfl rfl)
theorem dX4_passesHour_87 : decode cX4_passesHour 87 = .ok (.iconst 0, 1) := dk_3 (dk_at dksX4_passesHour_3 15 rfl rfl)
theorem dX4_passesHour_88 : decode cX4_passesHour 88 = .ok (.istore_n 2, 1) := dk_61 (dk_at dksX4_passesHour_3 16 rfl rfl)
theorem dX4_passesHour_89 : decode cX4_passesHour 89 = .ok (.iload_n 2, 1) := dk_28 (dk_at dksX4_passesHour_3 17 rfl rfl)
theorem dX4_passesHour_90 : decode cX4_passesHour 90 = .ok (.aload_n 0, 1) := dk_42 (dk_at dksX4_passesHour_3 18 rfl rfl)
theorem dX4_passesHour_91 : decode cX4_passesHour 91 = .ok (.getfield 9, 3) := dk_180 0 9 (dk_at dksX4_passesHour_3 19 rfl rfl)
theorem dX4_passesHour_94 : decode cX4_passesHour 94 = .ok (.iconst 0, 1) := dk_3 (dk_at dksX4_passesHour_3 22 rfl rfl)
theorem dX4_passesHour_95 : decode cX4_passesHour 95 = .ok (.iaload, 1) := dk_46 (dk_at dksX4_passesHour_3 23 rfl rfl)
theorem dX4_passesHour_96 : decode cX4_passesHour 96 = .ok (.if_icmp .ge 81, 3) := dk_162 0 81 (dk_at dksX4_passesHour_4 0 rfl rfl)
theorem dX4_passesHour_99 : decode cX4_passesHour 99 = .ok (.iconst 0, 1) := dk_3 (dk_at dksX4_passesHour_4 3 rfl rfl)
theorem dX4_passesHour_100 : decode cX4_passesHour 100 = .ok (.istore_n 3, 1) := dk_62 (dk_at dksX4_passesHour_4 4 rfl rfl)
theorem dX4_passesHour_101 : decode cX4_passesHour 101 = .ok (.iload_n 3, 1) := dk_29 (dk_at dksX4_passesHour_4 5 rfl rfl)
theorem dX4_passesHour_102 : decode cX4_passesHour 102 = .ok (.aload_n 0, 1) := dk_42 (dk_at dksX4_passesHour_4 6 rfl rfl)
theorem dX4_passesHour_103 : decode cX4_passesHour 103 = .ok (.iload_n 2, 1) := dk_28 (dk_at dksX4_passesHour_4 7 rfl rfl)
theorem dX4_passesHour_104 : decode cX4_passesHour 104 = .ok (.invokevirtual 78, 3) := dk_182 0 78 (dk_at dksX4_passesHour_4 8 rfl rfl)
theorem dX4_passesHour_107 : decode cX4_passesHour 107 = .ok (.if_icmp .ge 64, 3) := dk_162 0 64 (dk_at dksX4_passesHour_4 11 rfl rfl)
theorem dX4_passesHour_110 : decode cX4_passesHour 110 = .ok (.aload_n 0, 1) := dk_42 (dk_at dksX4_passesHour_4 14 rfl rfl)
theorem dX4_passesHour_111 : decode cX4_passesHour 111 = .ok (.iload_n 2, 1) := dk_28 (dk_at dksX4_passesHour_4 15 rfl rfl)
theorem dX4_passesHour_112 : decode cX4_passesHour 112 = .ok (.invokevirtual 81, 3) := dk_182 0 81 (dk_at dksX4_passesHour_4 16 rfl rfl)
theorem dX4_passesHour_115 : decode cX4_passesHour 115 = .ok (.iconst 1, 1) := dk_4 (dk_at dksX4_passesHour_4 19 rfl rfl)
theorem dX4_passesHour_116 : decode cX4_passesHour 116 = .ok (.if_icmp .ne 55, 3) := dk_160 0 55 (dk_at dksX4_passesHour_4 20 rfl rfl)
theorem dX4_passesHour_119 : decode cX4_passesHour 119 = .ok (.aload_n 0, 1) := dk_42 (dk_at dksX4_passesHour_4 23 rfl rfl)
theorem dX4_passesHour_120 : decode cX4_passesHour 120 = .ok (.getfield 9, 3) := dk_180 0 9 (dk_at dksX4_passesHour_5 0 rfl rfl)
theorem dX4_passesHour_123 : decode cX4_passesHour 123 = .ok (.iconst 1, 1) := dk_4 (dk_at dksX4_passesHour_5 3 rfl rfl)
theorem dX4_passesHour_124 : decode cX4_passesHour 124 = .ok (.iaload, 1) := dk_46 (dk_at dksX4_passesHour_5 4 rfl rfl)
theorem dX4_passesHour_125 : decode cX4_passesHour 125 = .ok (.bipush 6, 2) := dk_16 6 (dk_at dksX4_passesHour_5 5 rfl rfl)
theorem dX4_passesHour_127 : decode cX4_passesHour 127 = .ok (.irem, 1) := dk_112 (dk_at dksX4_passesHour_5 7 rfl rfl)
theorem dX4_passesHour_128 : decode cX4_passesHour 128 = .ok (.ifCond .ne 43, 3) := dk_154 0 43 (dk_at dksX4_passesHour_5 8 rfl rfl)
theorem dX4_passesHour_131 : decode cX4_passesHour 131 = .ok (.aload_n 0, 1) := dk_42 (dk_at dksX4_passesHour_5 11 rfl rfl)
theorem dX4_passesHour_132 : decode cX4_passesHour 132 = .ok (.getfield 9, 3) := dk_180 0 9 (dk_at dksX4_passesHour_5 12 rfl rfl)
theorem dX4_passesHour_135 : decode cX4_passesHour 135 = .ok (.iload_n 2, 1) := dk_28 (dk_at dksX4_passesHour_5 15 rfl rfl)
theorem dX4_passesHour_136 : decode cX4_passesHour 136 = .ok (.invokestatic 58, 3) := dk_184 0 58 (dk_at dksX4_passesHour_5 16 rfl rfl)
theorem dX4_passesHour_139 : decode cX4_passesHour 139 = .ok (.bipush 20, 2) := dk_16 20 (dk_at dksX4_passesHour_5 19 rfl rfl)
theorem dX4_passesHour_141 : decode cX4_passesHour 141 = .ok (.iadd, 1) := dk_96 (dk_at dksX4_passesHour_5 21 rfl rfl)
theorem dX4_passesHour_142 : decode cX4_passesHour 142 = .ok (.iload_n 3, 1) := dk_29 (dk_at dksX4_passesHour_5 22 rfl rfl)
theorem dX4_passesHour_143 : decode cX4_passesHour 143 = .ok (.iadd, 1) := dk_96 (dk_at dksX4_passesHour_5 23 rfl rfl)
theorem dX4_passesHour_144 : decode cX4_passesHour 144 = .ok (.iconst 0, 1) := dk_3 (dk_at dksX4_passesHour_6 0 rfl rfl)
theorem dX4_passesHour_145 : decode cX4_passesHour 145 = .ok (.aload_n 0, 1) := dk_42 (dk_at dksX4_passesHour_6 1 rfl rfl)
theorem dX4_passesHour_146 : decode cX4_passesHour 146 = .ok (.getfield 9, 3) := dk_180 0 9 (dk_at dksX4_passesHour_6 2 rfl rfl)
theorem dX4_passesHour_149 : decode cX4_passesHour 149 = .ok (.iload_n 2, 1) := dk_28 (dk_at dksX4_passesHour_6 5 rfl rfl)
theorem dX4_passesHour_150 : decode cX4_passesHour 150 = .ok (.invokestatic 58, 3) := dk_184 0 58 (dk_at dksX4_passesHour_6 6 rfl rfl)
theorem dX4_passesHour_153 : decode cX4_passesHour 153 = .ok (.bipush 20, 2) := dk_16 20 (dk_at dksX4_passesHour_6 9 rfl rfl)
theorem dX4_passesHour_155 : decode cX4_passesHour 155 = .ok (.iadd, 1) := dk_96 (dk_at dksX4_passesHour_6 11 rfl rfl)
theorem dX4_passesHour_156 : decode cX4_passesHour 156 = .ok (.iload_n 3, 1) := dk_29 (dk_at dksX4_passesHour_6 12 rfl rfl)
theorem dX4_passesHour_157 : decode cX4_passesHour 157 = .ok (.iadd, 1) := dk_96 (dk_at dksX4_passesHour_6 13 rfl rfl)
theorem dX4_passesHour_158 : decode cX4_passesHour 158 = .ok (.iaload, 1) := dk_46 (dk_at dksX4_passesHour_6 14 rfl rfl)
theorem dX4_passesHour_159 : decode cX4_passesHour 159 = .ok (.iconst 1, 1) := dk_4 (dk_at dksX4_passesHour_6 15 rfl rfl)
theorem dX4_passesHour_160 : decode cX4_passesHour 160 = .ok (.isub, 1) := dk_100 (dk_at dksX4_passesHour_6 16 rfl rfl)
theorem dX4_passesHour_161 : decode cX4_passesHour 161 = .ok (.invokestatic 65, 3) := dk_184 0 65 (dk_at dksX4_passesHour_6 17 rfl rfl)
theorem dX4_passesHour_164 : decode cX4_passesHour 164 = .ok (.iastore, 1) := dk_79 (dk_at dksX4_passesHour_6 20 rfl rfl)
theorem dX4_passesHour_165 : decode cX4_passesHour 165 = .ok (.iinc 3 1, 3) := dk_132 3 1 (dk_at dksX4_passesHour_6 21 rfl rfl)
theorem dX4_passesHour_168 : decode cX4_passesHour 168 = .ok (.goto (-67), 3) := dk_167 255 189 (dk_at dksX4_passesHour_7 0 rfl rfl)
theorem dX4_passesHour_171 : decode cX4_passesHour 171 = .ok (.iinc 2 1, 3) := dk_132 2 1 (dk_at dksX4_passesHour_7 3 rfl rfl)
theorem dX4_passesHour_174 : decode cX4_passesHour 174 = .ok (.goto (-85), 3) := dk_167 255 171 (dk_at dksX4_passesHour_7 6 rfl rfl)
theorem dX4_passesHour_177 : decode cX4_passesHour 177 = .ok (.iconst 0, 1) := dk_3 (dk_at dksX4_passesHour_7 9 rfl rfl)
theorem dX4_passesHour_178 : decode cX4_passesHour 178 = .ok (.istore_n 2, 1) := dk_61 (dk_at dksX4_passesHour_7 10 rfl rfl)
theorem dX4_passesHour_179 : decode cX4_passesHour 179 = .ok (.iload_n 2, 1) := dk_28 (dk_at dksX4_passesHour_7 11 rfl rfl)
theorem dX4_passesHour_180 : decode cX4_passesHour 180 = .ok (.aload_n 0, 1) := dk_42 (dk_at dksX4_passesHour_7 12 rfl rfl)
theorem dX4_passesHour_181 : decode cX4_passesHour 181 = .ok (.getfield 9, 3) := dk_180 0 9 (dk_at dksX4_passesHour_7 13 rfl rfl)
theorem dX4_passesHour_184 : decode cX4_passesHour 184 = .ok (.iconst 0, 1) := dk_3 (dk_at dksX4_passesHour_7 16 rfl rfl)
theorem dX4_passesHour_185 : decode cX4_passesHour 185 = .ok (.iaload, 1) := dk_46 (dk_at dksX4_passesHour_7 17 rfl rfl)
theorem dX4_passesHour_186 : decode cX4_passesHour 186 = .ok (.if_icmp .ge 45, 3) := dk_162 0 45 (dk_at dksX4_passesHour_7 18 rfl rfl)
theorem dX4_passesHour_189 : decode cX4_passesHour 189 = .ok (.aload_n 0, 1) := dk_42 (dk_at dksX4_passesHour_7 21 rfl rfl)
theorem dX4_passesHour_190 : decode cX4_passesHour 190 = .ok (.iload_n 2, 1) := dk_28 (dk_at dksX4_passesHour_7 22 rfl rfl)
theorem dX4_passesHour_191 : decode cX4_passesHour 191 = .ok (.invokevirtual 81, 3) := dk_182 0 81 (dk_at dksX4_passesHour_8 0 rfl rfl)
theorem dX4_passesHour_194 : decode cX4_passesHour 194 = .ok (.iconst 1, 1) := dk_4 (dk_at dksX4_passesHour_8 3 rfl rfl)
theorem dX4_passesHour_195 : decode cX4_passesHour 195 = .ok (.if_icmp .ne 30, 3) := dk_160 0 30 (dk_at dksX4_passesHour_8 4 rfl rfl)
theorem dX4_passesHour_198 : decode cX4_passesHour 198 = .ok (.aload_n 0, 1) := dk_42 (dk_at dksX4_passesHour_8 7 rfl rfl)
theorem dX4_passesHour_199 : decode cX4_passesHour 199 = .ok (.iload_n 2, 1) := dk_28 (dk_at dksX4_passesHour_8 8 rfl rfl)
theorem dX4_passesHour_200 : decode cX4_passesHour 200 = .ok (.aload_n 0, 1) := dk_42 (dk_at dksX4_passesHour_8 9 rfl rfl)
theorem dX4_passesHour_201 : decode cX4_passesHour 201 = .ok (.iload_n 2, 1) := dk_28 (dk_at dksX4_passesHour_8 10 rfl rfl)
theorem dX4_passesHour_202 : decode cX4_passesHour 202 = .ok (.invokevirtual 117, 3) := dk_182 0 117 (dk_at dksX4_passesHour_8 11 rfl rfl)
theorem dX4_passesHour_205 : decode cX4_passesHour 205 = .ok (.invokevirtual 120, 3) := dk_182 0 120 (dk_at dksX4_passesHour_8 14 rfl rfl)
theorem dX4_passesHour_208 : decode cX4_passesHour 208 = .ok (.iconst (-1), 1) := dk_2 (dk_at dksX4_passesHour_8 17 rfl rfl)
theorem dX4_passesHour_209 : decode cX4_passesHour 209 = .ok (.if_icmp .ne 16, 3) := dk_160 0 16 (dk_at dksX4_passesHour_8 18 rfl rfl)
theorem dX4_passesHour_212 : decode cX4_passesHour 212 = .ok (.aload_n 0, 1) := dk_42 (dk_at dksX4_passesHour_8 21 rfl rfl)
theorem dX4_passesHour_213 : decode cX4_passesHour 213 = .ok (.getfield 9, 3) := dk_180 0 9 (dk_at dksX4_passesHour_9 0 rfl rfl)
theorem dX4_passesHour_216 : decode cX4_passesHour 216 = .ok (.iload_n 2, 1) := dk_28 (dk_at dksX4_passesHour_9 3 rfl rfl)
theorem dX4_passesHour_217 : decode cX4_passesHour 217 = .ok (.invokestatic 58, 3) := dk_184 0 58 (dk_at dksX4_passesHour_9 4 rfl rfl)
theorem dX4_passesHour_220 : decode cX4_passesHour 220 = .ok (.iconst 3, 1) := dk_6 (dk_at dksX4_passesHour_9 7 rfl rfl)
theorem dX4_passesHour_221 : decode cX4_passesHour 221 = .ok (.iastore, 1) := dk_79 (dk_at dksX4_passesHour_9 8 rfl rfl)
theorem dX4_passesHour_222 : decode cX4_passesHour 222 = .ok (.iinc 1 1, 3) := dk_132 1 1 (dk_at dksX4_passesHour_9 9 rfl rfl)
theorem dX4_passesHour_225 : decode cX4_passesHour 225 = .ok (.iinc 2 1, 3) := dk_132 2 1 (dk_at dksX4_passesHour_9 12 rfl rfl)
theorem dX4_passesHour_228 : decode cX4_passesHour 228 = .ok (.goto (-49), 3) := dk_167 255 207 (dk_at dksX4_passesHour_9 15 rfl rfl)
theorem dX4_passesHour_231 : decode cX4_passesHour 231 = .ok (.iload_n 1, 1) := dk_27 (dk_at dksX4_passesHour_9 18 rfl rfl)
theorem dX4_passesHour_232 : decode cX4_passesHour 232 = .ok (.ireturn, 1) := dk_172 (dk_at dksX4_passesHour_9 19 rfl rfl)
def dkwX4_setSlip_2 : List UInt8 := [180, 0, 9, 16, 17, 27, 96, 28, 79, 42, 29, 182, 0, 98, 172]
abbrev dktX4_setSlip_2 : List UInt8 := dkwX4_setSlip_2 ++ []
def dkwX4_setSlip_1 : List UInt8 := [184, 0, 54, 154, 0, 9, 42, 4, 182, 0, 88, 172, 42, 180, 0, 9, 16, 17, 27, 96, 46, 62, 42]
abbrev dktX4_setSlip_1 : List UInt8 := dkwX4_setSlip_1 ++ dktX4_setSlip_2
def dkwX4_setSlip_0 : List UInt8 := [42, 182, 0, 91, 27, 133, 9, 20, 0, 157, 184, 0, 54, 153, 0, 15, 28, 133, 9, 20, 0, 159]
abbrev dktX4_setSlip_0 : List UInt8 := dkwX4_setSlip_0 ++ dktX4_setSlip_1
theorem dksX4_setSlip_0 : cX4_setSlip.data.toList.drop 0 = dktX4_setSlip_0 := by decide +kernel
theorem dksX4_setSlip_1 : cX4_setSlip.data.toList.drop 22 = dktX4_setSlip_1 := dk_seg dksX4_setSlip_0 22 rfl rfl
theorem dksX4_setSlip_2 : cX4_setSlip.data.toList.drop 45 = dktX4_setSlip_2 := dk_seg dksX4_setSlip_1 23 rfl rfl
theorem dX4_setSlip_0 : decode cX4_setSlip 0 = .ok (.aload_n 0, 1) := dk_42 (dk_at dksX4_setSlip_0 0 rfl rfl)
theorem dX4_setSlip_1 : decode cX4_setSlip 1 = .ok (.invokevirtual 91, 3) := dk_182 0 91 (dk_at dksX4_setSlip_0 1 rfl rfl)
theorem dX4_setSlip_4 : decode cX4_setSlip 4 = .ok (.iload_n 1, 1) := dk_27 (dk_at dksX4_setSlip_0 4 rfl rfl)
theorem dX4_setSlip_5 : decode cX4_setSlip 5 = .ok (.i2l, 1) := dk_133 (dk_at dksX4_setSlip_0 5 rfl rfl)
theorem dX4_setSlip_6 : decode cX4_setSlip 6 = .ok (.lconst 0, 1) := dk_9 (dk_at dksX4_setSlip_0 6 rfl rfl)
theorem dX4_setSlip_7 : decode cX4_setSlip 7 = .ok (.ldc2_w 157, 3) := dk_20 0 157 (dk_at dksX4_setSlip_0 7 rfl rfl)
theorem dX4_setSlip_10 : decode cX4_setSlip 10 = .ok (.invokestatic 54, 3) := dk_184 0 54 (dk_at dksX4_setSlip_0 10 rfl rfl)
theorem dX4_setSlip_13 : decode cX4_setSlip 13 = .ok (.ifCond .eq 15, 3) := dk_153 0 15 (dk_at dksX4_setSlip_0 13 rfl rfl)
theorem dX4_setSlip_16 : decode cX4_setSlip 16 = .ok (.iload_n 2, 1) := dk_28 (dk_at dksX4_setSlip_0 16 rfl rfl)
theorem dX4_setSlip_17 : decode cX4_setSlip 17 = .ok (.i2l, 1) := dk_133 (dk_at dksX4_setSlip_0 17 rfl rfl)
theorem dX4_setSlip_18 : decode cX4_setSlip 18 = .ok (.lconst 0, 1) := dk_9 (dk_at dksX4_setSlip_0 18 rfl rfl)
theorem dX4_setSlip_19 : decode cX4_setSlip 19 = .ok (.ldc2_w 159, 3) := dk_20 0 159 (dk_at dksX4_setSlip_0 19 rfl rfl)
theorem dX4_setSlip_22 : decode cX4_setSlip 22 = .ok (.invokestatic 54, 3) := dk_184 0 54 (dk_at dksX4_setSlip_1 0 rfl rfl)
theorem dX4_setSlip_25 : decode cX4_setSlip 25 = .ok (.ifCond .ne 9, 3) := dk_154 0 9 (dk_at dksX4_setSlip_1 3 rfl rfl)
theorem dX4_setSlip_28 : decode cX4_setSlip 28 = .ok (.aload_n 0, 1) := dk_42 (dk_at dksX4_setSlip_1 6 rfl rfl)
theorem dX4_setSlip_29 : decode cX4_setSlip 29 = .ok (.iconst 1, 1) := dk_4 (dk_at dksX4_setSlip_1 7 rfl rfl)
theorem dX4_setSlip_30 : decode cX4_setSlip 30 = .ok (.invokevirtual 88, 3) := dk_182 0 88 (dk_at dksX4_setSlip_1 8 rfl rfl)
theorem dX4_setSlip_33 : decode cX4_setSlip 33 = .ok (.ireturn, 1) := dk_172 (dk_at dksX4_setSlip_1 11 rfl rfl)
theorem dX4_setSlip_34 : decode cX4_setSlip 34 = .ok (.aload_n 0, 1) := dk_42 (dk_at dksX4_setSlip_1 12 rfl rfl)
theorem dX4_setSlip_35 : decode cX4_setSlip 35 = .ok (.getfield 9, 3) := dk_180 0 9 (dk_at dksX4_setSlip_1 13 rfl rfl)
theorem dX4_setSlip_38 : decode cX4_setSlip 38 = .ok (.bipush 17, 2) := dk_16 17 (dk_at dksX4_setSlip_1 16 rfl rfl)
theorem dX4_setSlip_40 : decode cX4_setSlip 40 = .ok (.iload_n 1, 1) := dk_27 (dk_at dksX4_setSlip_1 18 rfl rfl)
theorem dX4_setSlip_41 : decode cX4_setSlip 41 = .ok (.iadd, 1) := dk_96 (dk_at dksX4_setSlip_1 19 rfl rfl)
theorem dX4_setSlip_42 : decode cX4_setSlip 42 = .ok (.iaload, 1) := dk_46 (dk_at dksX4_setSlip_1 20 rfl rfl)
theorem dX4_setSlip_43 : decode cX4_setSlip 43 = .ok (.istore_n 3, 1) := dk_62 (dk_at dksX4_setSlip_1 21 rfl rfl)
theorem dX4_setSlip_44 : decode cX4_setSlip 44 = .ok (.aload_n 0, 1) := dk_42 (dk_at dksX4_setSlip_1 22 rfl rfl)
theorem dX4_setSlip_45 : decode cX4_setSlip 45 = .ok (.getfield 9, 3) := dk_180 0 9 (dk_at dksX4_setSlip_2 0 rfl rfl)
theorem dX4_setSlip_48 : decode cX4_setSlip 48 = .ok (.bipush 17, 2) := dk_16 17 (dk_at dksX4_setSlip_2 3 rfl rfl)
theorem dX4_setSlip_50 : decode cX4_setSlip 50 = .ok (.iload_n 1, 1) := dk_27 (dk_at dksX4_setSlip_2 5 rfl rfl)
theorem dX4_setSlip_51 : decode cX4_setSlip 51 = .ok (.iadd, 1) := dk_96 (dk_at dksX4_setSlip_2 6 rfl rfl)
theorem dX4_setSlip_52 : decode cX4_setSlip 52 = .ok (.iload_n 2, 1) := dk_28 (dk_at dksX4_setSlip_2 7 rfl rfl)
theorem dX4_setSlip_53 : decode cX4_setSlip 53 = .ok (.iastore, 1) := dk_79 (dk_at dksX4_setSlip_2 8 rfl rfl)
theorem dX4_setSlip_54 : decode cX4_setSlip 54 = .ok (.aload_n 0, 1) := dk_42 (dk_at dksX4_setSlip_2 9 rfl rfl)
theorem dX4_setSlip_55 : decode cX4_setSlip 55 = .ok (.iload_n 3, 1) := dk_29 (dk_at dksX4_setSlip_2 10 rfl rfl)
theorem dX4_setSlip_56 : decode cX4_setSlip 56 = .ok (.invokevirtual 98, 3) := dk_182 0 98 (dk_at dksX4_setSlip_2 11 rfl rfl)
theorem dX4_setSlip_59 : decode cX4_setSlip 59 = .ok (.ireturn, 1) := dk_172 (dk_at dksX4_setSlip_2 14 rfl rfl)
def dkwX4_addOrder_0 : List UInt8 := [42, 182, 0, 91, 42, 42, 27, 28, 29, 182, 0, 163, 182, 0, 98, 172]
abbrev dktX4_addOrder_0 : List UInt8 := dkwX4_addOrder_0 ++ []
theorem dksX4_addOrder_0 : cX4_addOrder.data.toList.drop 0 = dktX4_addOrder_0 := by decide +kernel
theorem dX4_addOrder_0 : decode cX4_addOrder 0 = .ok (.aload_n 0, 1) := dk_42 (dk_at dksX4_addOrder_0 0 rfl rfl)
theorem dX4_addOrder_1 : decode cX4_addOrder 1 = .ok (.invokevirtual 91, 3) := dk_182 0 91 (dk_at dksX4_addOrder_0 1 rfl rfl)
theorem dX4_addOrder_4 : decode cX4_addOrder 4 = .ok (.aload_n 0, 1) := dk_42 (dk_at dksX4_addOrder_0 4 rfl rfl)
theorem dX4_addOrder_5 : decode cX4_addOrder 5 = .ok (.aload_n 0, 1) := dk_42 (dk_at dksX4_addOrder_0 5 rfl rfl)
theorem dX4_addOrder_6 : decode cX4_addOrder 6 = .ok (.iload_n 1, 1) := dk_27 (dk_at dksX4_addOrder_0 6 rfl rfl)
theorem dX4_addOrder_7 : decode cX4_addOrder 7 = .ok (.iload_n 2, 1) := dk_28 (dk_at dksX4_addOrder_0 7 rfl rfl)
theorem dX4_addOrder_8 : decode cX4_addOrder 8 = .ok (.iload_n 3, 1) := dk_29 (dk_at dksX4_addOrder_0 8 rfl rfl)
theorem dX4_addOrder_9 : decode cX4_addOrder 9 = .ok (.invokevirtual 163, 3) := dk_182 0 163 (dk_at dksX4_addOrder_0 9 rfl rfl)
theorem dX4_addOrder_12 : decode cX4_addOrder 12 = .ok (.invokevirtual 98, 3) := dk_182 0 98 (dk_at dksX4_addOrder_0 12 rfl rfl)
theorem dX4_addOrder_15 : decode cX4_addOrder 15 = .ok (.ireturn, 1) := dk_172 (dk_at dksX4_addOrder_0 15 rfl rfl)
def dkwX4_orderIt_6 : List UInt8 := [180, 0, 9, 21, 4, 46, 172]
abbrev dktX4_orderIt_6 : List UInt8 := dkwX4_orderIt_6 ++ []
def dkwX4_orderIt_5 : List UInt8 := [29, 79, 42, 180, 0, 9, 5, 92, 46, 4, 96, 79, 42, 180, 0, 9, 6, 92, 46, 4, 96, 79, 42]
abbrev dktX4_orderIt_5 : List UInt8 := dkwX4_orderIt_5 ++ dktX4_orderIt_6
def dkwX4_orderIt_4 : List UInt8 := [21, 4, 4, 96, 27, 79, 42, 180, 0, 9, 21, 4, 5, 96, 28, 79, 42, 180, 0, 9, 21, 4, 6, 96]
abbrev dktX4_orderIt_4 : List UInt8 := dkwX4_orderIt_4 ++ dktX4_orderIt_5
def dkwX4_orderIt_3 : List UInt8 := [5, 46, 104, 96, 54, 4, 42, 180, 0, 9, 21, 4, 42, 180, 0, 9, 6, 46, 79, 42, 180, 0, 9]
abbrev dktX4_orderIt_3 : List UInt8 := dkwX4_orderIt_3 ++ dktX4_orderIt_4
def dkwX4_orderIt_2 : List UInt8 := [180, 0, 9, 5, 46, 16, 6, 160, 0, 9, 42, 5, 182, 0, 88, 172, 17, 0, 189, 7, 42, 180, 0, 9]
abbrev dktX4_orderIt_2 : List UInt8 := dkwX4_orderIt_2 ++ dktX4_orderIt_3
def dkwX4_orderIt_1 : List UInt8 := [153, 0, 15, 29, 133, 10, 20, 0, 109, 184, 0, 54, 154, 0, 9, 42, 4, 182, 0, 88, 172, 42]
abbrev dktX4_orderIt_1 : List UInt8 := dkwX4_orderIt_1 ++ dktX4_orderIt_2
def dkwX4_orderIt_0 : List UInt8 := [27, 133, 20, 0, 161, 20, 0, 159, 184, 0, 54, 153, 0, 27, 28, 133, 9, 20, 0, 109, 184, 0, 54]
abbrev dktX4_orderIt_0 : List UInt8 := dkwX4_orderIt_0 ++ dktX4_orderIt_1
theorem dksX4_orderIt_0 : cX4_orderIt.data.toList.drop 0 = dktX4_orderIt_0 := by decide +kernel
theorem dksX4_orderIt_1 : cX4_orderIt.data.toList.drop 23 = dktX4_orderIt_1 := dk_seg dksX4_orderIt_0 23 rfl rfl
theorem dksX4_orderIt_2 : cX4_orderIt.data.toList.drop 45 = dktX4_orderIt_2 := dk_seg dksX4_orderIt_1 22 rfl rfl
theorem dksX4_orderIt_3 : cX4_orderIt.data.toList.drop 69 = dktX4_orderIt_3 := dk_seg dksX4_orderIt_2 24 rfl rfl
theorem dksX4_orderIt_4 : cX4_orderIt.data.toList.drop 92 = dktX4_orderIt_4 := dk_seg dksX4_orderIt_3 23 rfl rfl
theorem dksX4_orderIt_5 : cX4_orderIt.data.toList.drop 116 = dktX4_orderIt_5 := dk_seg dksX4_orderIt_4 24 rfl rfl
theorem dksX4_orderIt_6 : cX4_orderIt.data.toList.drop 139 = dktX4_orderIt_6 := dk_seg dksX4_orderIt_5 23 rfl rfl
theorem dX4_orderIt_0 : decode cX4_orderIt 0 = .ok (.iload_n 1, 1) := dk_27 (dk_at dksX4_orderIt_0 0 rfl rfl)
theorem dX4_orderIt_1 : decode cX4_orderIt 1 = .ok (.i2l, 1) := dk_133 (dk_at dksX4_orderIt_0 1 rfl rfl)
theorem dX4_orderIt_2 : decode cX4_orderIt 2 = .ok (.ldc2_w 161, 3) := dk_20 0 161 (dk_at dksX4_orderIt_0 2 rfl rfl)
theorem dX4_orderIt_5 : decode cX4_orderIt 5 = .ok (.ldc2_w 159, 3) := dk_20 0 159 (dk_at dksX4_orderIt_0 5 rfl rfl)
theorem dX4_orderIt_8 : decode cX4_orderIt 8 = .ok (.invokestatic 54, 3) := dk_184 0 54 (dk_at dksX4_orderIt_0 8 rfl rfl)
theorem dX4_orderIt_11 : decode cX4_orderIt 11 = .ok (.ifCond .eq 27, 3) := dk_153 0 27 (dk_at dksX4_orderIt_0 11 rfl rfl)
theorem dX4_orderIt_14 : decode cX4_orderIt 14 = .ok (.iload_n 2, 1) := dk_28 (dk_at dksX4_orderIt_0 14 rfl rfl)
theorem dX4_orderIt_15 : decode cX4_orderIt 15 = .ok (.i2l, 1) := dk_133 (dk_at dksX4_orderIt_0 15 rfl rfl)
theorem dX4_orderIt_16 : decode cX4_orderIt 16 = .ok (.lconst 0, 1) := dk_9 (dk_at dksX4_orderIt_0 16 rfl rfl)
theorem dX4_orderIt_17 : decode cX4_orderIt 17 = .ok (.ldc2_w 109, 3) := dk_20 0 109 (dk_at dksX4_orderIt_0 17 rfl rfl)
theorem dX4_orderIt_20 : decode cX4_orderIt 20 = .ok (.invokestatic 54, 3) := dk_184 0 54 (dk_at dksX4_orderIt_0 20 rfl rfl)
theorem dX4_orderIt_23 : decode cX4_orderIt 23 = .ok (.ifCond .eq 15, 3) := dk_153 0 15 (dk_at dksX4_orderIt_1 0 rfl rfl)
theorem dX4_orderIt_26 : decode cX4_orderIt 26 = .ok (.iload_n 3, 1) := dk_29 (dk_at dksX4_orderIt_1 3 rfl rfl)
theorem dX4_orderIt_27 : decode cX4_orderIt 27 = .ok (.i2l, 1) := dk_133 (dk_at dksX4_orderIt_1 4 rfl rfl)
theorem dX4_orderIt_28 : decode cX4_orderIt 28 = .ok (.lconst 1, 1) := dk_10 (dk_at dksX4_orderIt_1 5 rfl rfl)
theorem dX4_orderIt_29 : decode cX4_orderIt 29 = .ok (.ldc2_w 109, 3) := dk_20 0 109 (dk_at dksX4_orderIt_1 6 rfl rfl)
theorem dX4_orderIt_32 : decode cX4_orderIt 32 = .ok (.invokestatic 54, 3) := dk_184 0 54 (dk_at dksX4_orderIt_1 9 rfl rfl)
theorem dX4_orderIt_35 : decode cX4_orderIt 35 = .ok (.ifCond .ne 9, 3) := dk_154 0 9 (dk_at dksX4_orderIt_1 12 rfl rfl)
theorem dX4_orderIt_38 : decode cX4_orderIt 38 = .ok (.aload_n 0, 1) := dk_42 (dk_at dksX4_orderIt_1 15 rfl rfl)
theorem dX4_orderIt_39 : decode cX4_orderIt 39 = .ok (.iconst 1, 1) := dk_4 (dk_at dksX4_orderIt_1 16 rfl rfl)
theorem dX4_orderIt_40 : decode cX4_orderIt 40 = .ok (.invokevirtual 88, 3) := dk_182 0 88 (dk_at dksX4_orderIt_1 17 rfl rfl)
theorem dX4_orderIt_43 : decode cX4_orderIt 43 = .ok (.ireturn, 1) := dk_172 (dk_at dksX4_orderIt_1 20 rfl rfl)
theorem dX4_orderIt_44 : decode cX4_orderIt 44 = .ok (.aload_n 0, 1) := dk_42 (dk_at dksX4_orderIt_1 21 rfl rfl)
theorem dX4_orderIt_45 : decode cX4_orderIt 45 = .ok (.getfield 9, 3) := dk_180 0 9 (dk_at dksX4_orderIt_2 0 rfl rfl)
theorem dX4_orderIt_48 : decode cX4_orderIt 48 = .ok (.iconst 2, 1) := dk_5 (dk_at dksX4_orderIt_2 3 rfl rfl)
theorem dX4_orderIt_49 : decode cX4_orderIt 49 = .ok (.iaload, 1) := dk_46 (dk_at dksX4_orderIt_2 4 rfl rfl)
theorem dX4_orderIt_50 : decode cX4_orderIt 50 = .ok (.bipush 6, 2) := dk_16 6 (dk_at dksX4_orderIt_2 5 rfl rfl)
theorem dX4_orderIt_52 : decode cX4_orderIt 52 = .ok (.if_icmp .ne 9, 3) := dk_160 0 9 (dk_at dksX4_orderIt_2 7 rfl rfl)
theorem dX4_orderIt_55 : decode cX4_orderIt 55 = .ok (.aload_n 0, 1) := dk_42 (dk_at dksX4_orderIt_2 10 rfl rfl)
theorem dX4_orderIt_56 : decode cX4_orderIt 56 = .ok (.iconst 2, 1) := dk_5 (dk_at dksX4_orderIt_2 11 rfl rfl)
theorem dX4_orderIt_57 : decode cX4_orderIt 57 = .ok (.invokevirtual 88, 3) := dk_182 0 88 (dk_at dksX4_orderIt_2 12 rfl rfl)
theorem dX4_orderIt_60 : decode cX4_orderIt 60 = .ok (.ireturn, 1) := dk_172 (dk_at dksX4_orderIt_2 15 rfl rfl)
theorem dX4_orderIt_61 : decode cX4_orderIt 61 = .ok (.sipush 189, 3) := dk_17 0 189 (dk_at dksX4_orderIt_2 16 rfl rfl)
theorem dX4_orderIt_64 : decode cX4_orderIt 64 = .ok (.iconst 4, 1) := dk_7 (dk_at dksX4_orderIt_2 19 rfl rfl)
theorem dX4_orderIt_65 : decode cX4_orderIt 65 = .ok (.aload_n 0, 1) := dk_42 (dk_at dksX4_orderIt_2 20 rfl rfl)
theorem dX4_orderIt_66 : decode cX4_orderIt 66 = .ok (.getfield 9, 3) := dk_180 0 9 (dk_at dksX4_orderIt_2 21 rfl rfl)
theorem dX4_orderIt_69 : decode cX4_orderIt 69 = .ok (.iconst 2, 1) := dk_5 (dk_at dksX4_orderIt_3 0 rfl rfl)
theorem dX4_orderIt_70 : decode cX4_orderIt 70 = .ok (.iaload, 1) := dk_46 (dk_at dksX4_orderIt_3 1 rfl rfl)
theorem dX4_orderIt_71 : decode cX4_orderIt 71 = .ok (.imul, 1) := dk_104 (dk_at dksX4_orderIt_3 2 rfl rfl)
theorem dX4_orderIt_72 : decode cX4_orderIt 72 = .ok (.iadd, 1) := dk_96 (dk_at dksX4_orderIt_3 3 rfl rfl)
theorem dX4_orderIt_73 : decode cX4_orderIt 73 = .ok (.istore 4, 2) := dk_54 4 (dk_at dksX4_orderIt_3 4 rfl rfl)
theorem dX4_orderIt_75 : decode cX4_orderIt 75 = .ok (.aload_n 0, 1) := dk_42 (dk_at dksX4_orderIt_3 6 rfl rfl)
theorem dX4_orderIt_76 : decode cX4_orderIt 76 = .ok (.getfield 9, 3) := dk_180 0 9 (dk_at dksX4_orderIt_3 7 rfl rfl)
theorem dX4_orderIt_79 : decode cX4_orderIt 79 = .ok (.iload 4, 2) := dk_21 4 (dk_at dksX4_orderIt_3 10 rfl rfl)
theorem dX4_orderIt_81 : decode cX4_orderIt 81 = .ok (.aload_n 0, 1) := dk_42 (dk_at dksX4_orderIt_3 12 rfl rfl)
theorem dX4_orderIt_82 : decode cX4_orderIt 82 = .ok (.getfield 9, 3) := dk_180 0 9 (dk_at dksX4_orderIt_3 13 rfl rfl)
theorem dX4_orderIt_85 : decode cX4_orderIt 85 = .ok (.iconst 3, 1) := dk_6 (dk_at dksX4_orderIt_3 16 rfl rfl)
theorem dX4_orderIt_86 : decode cX4_orderIt 86 = .ok (.iaload, 1) := dk_46 (dk_at dksX4_orderIt_3 17 rfl rfl)
theorem dX4_orderIt_87 : decode cX4_orderIt 87 = .ok (.iastore, 1) := dk_79 (dk_at dksX4_orderIt_3 18 rfl rfl)
theorem dX4_orderIt_88 : decode cX4_orderIt 88 = .ok (.aload_n 0, 1) := dk_42 (dk_at dksX4_orderIt_3 19 rfl rfl)
theorem dX4_orderIt_89 : decode cX4_orderIt 89 = .ok (.getfield 9, 3) := dk_180 0 9 (dk_at dksX4_orderIt_3 20 rfl rfl)
theorem dX4_orderIt_92 : decode cX4_orderIt 92 = .ok (.iload 4, 2) := dk_21 4 (dk_at dksX4_orderIt_4 0 rfl rfl)
theorem dX4_orderIt_94 : decode cX4_orderIt 94 = .ok (.iconst 1, 1) := dk_4 (dk_at dksX4_orderIt_4 2 rfl rfl)
theorem dX4_orderIt_95 : decode cX4_orderIt 95 = .ok (.iadd, 1) := dk_96 (dk_at dksX4_orderIt_4 3 rfl rfl)
theorem dX4_orderIt_96 : decode cX4_orderIt 96 = .ok (.iload_n 1, 1) := dk_27 (dk_at dksX4_orderIt_4 4 rfl rfl)
theorem dX4_orderIt_97 : decode cX4_orderIt 97 = .ok (.iastore, 1) := dk_79 (dk_at dksX4_orderIt_4 5 rfl rfl)
theorem dX4_orderIt_98 : decode cX4_orderIt 98 = .ok (.aload_n 0, 1) := dk_42 (dk_at dksX4_orderIt_4 6 rfl rfl)
theorem dX4_orderIt_99 : decode cX4_orderIt 99 = .ok (.getfield 9, 3) := dk_180 0 9 (dk_at dksX4_orderIt_4 7 rfl rfl)
theorem dX4_orderIt_102 : decode cX4_orderIt 102 = .ok (.iload 4, 2) := dk_21 4 (dk_at dksX4_orderIt_4 10 rfl rfl)
theorem dX4_orderIt_104 : decode cX4_orderIt 104 = .ok (.iconst 2, 1) := dk_5 (dk_at dksX4_orderIt_4 12 rfl rfl)
theorem dX4_orderIt_105 : decode cX4_orderIt 105 = .ok (.iadd, 1) := dk_96 (dk_at dksX4_orderIt_4 13 rfl rfl)
theorem dX4_orderIt_106 : decode cX4_orderIt 106 = .ok (.iload_n 2, 1) := dk_28 (dk_at dksX4_orderIt_4 14 rfl rfl)
theorem dX4_orderIt_107 : decode cX4_orderIt 107 = .ok (.iastore, 1) := dk_79 (dk_at dksX4_orderIt_4 15 rfl rfl)
theorem dX4_orderIt_108 : decode cX4_orderIt 108 = .ok (.aload_n 0, 1) := dk_42 (dk_at dksX4_orderIt_4 16 rfl rfl)
theorem dX4_orderIt_109 : decode cX4_orderIt 109 = .ok (.getfield 9, 3) := dk_180 0 9 (dk_at dksX4_orderIt_4 17 rfl rfl)
theorem dX4_orderIt_112 : decode cX4_orderIt 112 = .ok (.iload 4, 2) := dk_21 4 (dk_at dksX4_orderIt_4 20 rfl rfl)
theorem dX4_orderIt_114 : decode cX4_orderIt 114 = .ok (.iconst 3, 1) := dk_6 (dk_at dksX4_orderIt_4 22 rfl rfl)
theorem dX4_orderIt_115 : decode cX4_orderIt 115 = .ok (.iadd, 1) := dk_96 (dk_at dksX4_orderIt_4 23 rfl rfl)
theorem dX4_orderIt_116 : decode cX4_orderIt 116 = .ok (.iload_n 3, 1) := dk_29 (dk_at dksX4_orderIt_5 0 rfl rfl)
theorem dX4_orderIt_117 : decode cX4_orderIt 117 = .ok (.iastore, 1) := dk_79 (dk_at dksX4_orderIt_5 1 rfl rfl)
theorem dX4_orderIt_118 : decode cX4_orderIt 118 = .ok (.aload_n 0, 1) := dk_42 (dk_at dksX4_orderIt_5 2 rfl rfl)
theorem dX4_orderIt_119 : decode cX4_orderIt 119 = .ok (.getfield 9, 3) := dk_180 0 9 (dk_at dksX4_orderIt_5 3 rfl rfl)
theorem dX4_orderIt_122 : decode cX4_orderIt 122 = .ok (.iconst 2, 1) := dk_5 (dk_at dksX4_orderIt_5 6 rfl rfl)
theorem dX4_orderIt_123 : decode cX4_orderIt 123 = .ok (.dup2, 1) := dk_92 (dk_at dksX4_orderIt_5 7 rfl rfl)
theorem dX4_orderIt_124 : decode cX4_orderIt 124 = .ok (.iaload, 1) := dk_46 (dk_at dksX4_orderIt_5 8 rfl rfl)
theorem dX4_orderIt_125 : decode cX4_orderIt 125 = .ok (.iconst 1, 1) := dk_4 (dk_at dksX4_orderIt_5 9 rfl rfl)
theorem dX4_orderIt_126 : decode cX4_orderIt 126 = .ok (.iadd, 1) := dk_96 (dk_at dksX4_orderIt_5 10 rfl rfl)
theorem dX4_orderIt_127 : decode cX4_orderIt 127 = .ok (.iastore, 1) := dk_79 (dk_at dksX4_orderIt_5 11 rfl rfl)
theorem dX4_orderIt_128 : decode cX4_orderIt 128 = .ok (.aload_n 0, 1) := dk_42 (dk_at dksX4_orderIt_5 12 rfl rfl)
theorem dX4_orderIt_129 : decode cX4_orderIt 129 = .ok (.getfield 9, 3) := dk_180 0 9 (dk_at dksX4_orderIt_5 13 rfl rfl)
theorem dX4_orderIt_132 : decode cX4_orderIt 132 = .ok (.iconst 3, 1) := dk_6 (dk_at dksX4_orderIt_5 16 rfl rfl)
theorem dX4_orderIt_133 : decode cX4_orderIt 133 = .ok (.dup2, 1) := dk_92 (dk_at dksX4_orderIt_5 17 rfl rfl)
theorem dX4_orderIt_134 : decode cX4_orderIt 134 = .ok (.iaload, 1) := dk_46 (dk_at dksX4_orderIt_5 18 rfl rfl)
theorem dX4_orderIt_135 : decode cX4_orderIt 135 = .ok (.iconst 1, 1) := dk_4 (dk_at dksX4_orderIt_5 19 rfl rfl)
theorem dX4_orderIt_136 : decode cX4_orderIt 136 = .ok (.iadd, 1) := dk_96 (dk_at dksX4_orderIt_5 20 rfl rfl)
theorem dX4_orderIt_137 : decode cX4_orderIt 137 = .ok (.iastore, 1) := dk_79 (dk_at dksX4_orderIt_5 21 rfl rfl)
theorem dX4_orderIt_138 : decode cX4_orderIt 138 = .ok (.aload_n 0, 1) := dk_42 (dk_at dksX4_orderIt_5 22 rfl rfl)
theorem dX4_orderIt_139 : decode cX4_orderIt 139 = .ok (.getfield 9, 3) := dk_180 0 9 (dk_at dksX4_orderIt_6 0 rfl rfl)
theorem dX4_orderIt_142 : decode cX4_orderIt 142 = .ok (.iload 4, 2) := dk_21 4 (dk_at dksX4_orderIt_6 3 rfl rfl)
theorem dX4_orderIt_144 : decode cX4_orderIt 144 = .ok (.iaload, 1) := dk_46 (dk_at dksX4_orderIt_6 5 rfl rfl)
theorem dX4_orderIt_145 : decode cX4_orderIt 145 = .ok (.ireturn, 1) := dk_172 (dk_at dksX4_orderIt_6 6 rfl rfl)
def dkwX4_deliver_0 : List UInt8 := [42, 182, 0, 91, 42, 42, 27, 28, 182, 0, 172, 182, 0, 98, 172]
abbrev dktX4_deliver_0 : List UInt8 := dkwX4_deliver_0 ++ []
theorem dksX4_deliver_0 : cX4_deliver.data.toList.drop 0 = dktX4_deliver_0 := by decide +kernel
theorem dX4_deliver_0 : decode cX4_deliver 0 = .ok (.aload_n 0, 1) := dk_42 (dk_at dksX4_deliver_0 0 rfl rfl)
theorem dX4_deliver_1 : decode cX4_deliver 1 = .ok (.invokevirtual 91, 3) := dk_182 0 91 (dk_at dksX4_deliver_0 1 rfl rfl)
theorem dX4_deliver_4 : decode cX4_deliver 4 = .ok (.aload_n 0, 1) := dk_42 (dk_at dksX4_deliver_0 4 rfl rfl)
theorem dX4_deliver_5 : decode cX4_deliver 5 = .ok (.aload_n 0, 1) := dk_42 (dk_at dksX4_deliver_0 5 rfl rfl)
theorem dX4_deliver_6 : decode cX4_deliver 6 = .ok (.iload_n 1, 1) := dk_27 (dk_at dksX4_deliver_0 6 rfl rfl)
theorem dX4_deliver_7 : decode cX4_deliver 7 = .ok (.iload_n 2, 1) := dk_28 (dk_at dksX4_deliver_0 7 rfl rfl)
theorem dX4_deliver_8 : decode cX4_deliver 8 = .ok (.invokevirtual 172, 3) := dk_182 0 172 (dk_at dksX4_deliver_0 8 rfl rfl)
theorem dX4_deliver_11 : decode cX4_deliver 11 = .ok (.invokevirtual 98, 3) := dk_182 0 98 (dk_at dksX4_deliver_0 11 rfl rfl)
theorem dX4_deliver_14 : decode cX4_deliver 14 = .ok (.ireturn, 1) := dk_172 (dk_at dksX4_deliver_0 14 rfl rfl)
def dkwX4_deliverIt_7 : List UInt8 := [180, 0, 9, 5, 92, 46, 4, 100, 79, 21, 4, 172]
abbrev dktX4_deliverIt_7 : List UInt8 := dkwX4_deliverIt_7 ++ []
def dkwX4_deliverIt_6 : List UInt8 := [21, 5, 17, 0, 213, 162, 0, 17, 42, 180, 0, 9, 21, 5, 3, 79, 132, 5, 1, 167, 255, 237, 42]
abbrev dktX4_deliverIt_6 : List UInt8 := dkwX4_deliverIt_6 ++ dktX4_deliverIt_7
def dkwX4_deliverIt_5 : List UInt8 := [21, 5, 42, 180, 0, 9, 21, 5, 7, 96, 46, 79, 132, 5, 1, 167, 255, 229, 17, 0, 209, 54, 5]
abbrev dktX4_deliverIt_5 : List UInt8 := dkwX4_deliverIt_5 ++ dktX4_deliverIt_6
def dkwX4_deliverIt_4 : List UInt8 := [5, 79, 17, 0, 189, 7, 29, 104, 96, 54, 5, 21, 5, 17, 0, 209, 162, 0, 25, 42, 180, 0, 9]
abbrev dktX4_deliverIt_4 : List UInt8 := dkwX4_deliverIt_4 ++ dktX4_deliverIt_5
def dkwX4_deliverIt_3 : List UInt8 := [182, 0, 169, 54, 4, 42, 180, 0, 9, 7, 92, 46, 21, 4, 96, 79, 42, 180, 0, 9, 28, 184, 0, 58]
abbrev dktX4_deliverIt_3 : List UInt8 := dkwX4_deliverIt_3 ++ dktX4_deliverIt_4
def dkwX4_deliverIt_2 : List UInt8 := [180, 0, 9, 17, 0, 189, 7, 29, 104, 96, 4, 96, 46, 159, 0, 9, 42, 6, 182, 0, 88, 172, 42, 29]
abbrev dktX4_deliverIt_2 : List UInt8 := dkwX4_deliverIt_2 ++ dktX4_deliverIt_3
def dkwX4_deliverIt_1 : List UInt8 := [154, 0, 9, 42, 5, 182, 0, 88, 172, 42, 28, 182, 0, 81, 4, 160, 0, 25, 42, 28, 182, 0, 62, 42]
abbrev dktX4_deliverIt_1 : List UInt8 := dkwX4_deliverIt_1 ++ dktX4_deliverIt_2
def dkwX4_deliverIt_0 : List UInt8 := [42, 27, 182, 0, 166, 62, 29, 2, 160, 0, 9, 42, 4, 182, 0, 88, 172, 42, 28, 182, 0, 84]
abbrev dktX4_deliverIt_0 : List UInt8 := dkwX4_deliverIt_0 ++ dktX4_deliverIt_1
theorem dksX4_deliverIt_0 : cX4_deliverIt.data.toList.drop 0 = dktX4_deliverIt_0 := by decide +kernel
theorem dksX4_deliverIt_1 : cX4_deliverIt.data.toList.drop 22 = dktX4_deliverIt_1 := dk_seg dksX4_deliverIt_0 22 rfl rfl
theorem dksX4_deliverIt_2 : cX4_deliverIt.data.toList.drop 46 = dktX4_deliverIt_2 := dk_seg dksX4_deliverIt_1 24 rfl rfl
theorem dksX4_deliverIt_3 : cX4_deliverIt.data.toList.drop 70 = dktX4_deliverIt_3 := dk_seg dksX4_deliverIt_2 24 rfl rfl
theorem dksX4_deliverIt_4 : cX4_deliverIt.data.toList.drop 94 = dktX4_deliverIt_4 := dk_seg dksX4_deliverIt_3 24 rfl rfl
theorem dksX4_deliverIt_5 : cX4_deliverIt.data.toList.drop 117 = dktX4_deliverIt_5 := dk_seg dksX4_deliverIt_4 23 rfl rfl
theorem dksX4_deliverIt_6 : cX4_deliverIt.data.toList.drop 140 = dktX4_deliverIt_6 := dk_seg dksX4_deliverIt_5 23 rfl rfl
theorem dksX4_deliverIt_7 : cX4_deliverIt.data.toList.drop 163 = dktX4_deliverIt_7 := dk_seg dksX4_deliverIt_6 23 rfl rfl
theorem dX4_deliverIt_0 : decode cX4_deliverIt 0 = .ok (.aload_n 0, 1) := dk_42 (dk_at dksX4_deliverIt_0 0 rfl rfl)
theorem dX4_deliverIt_1 : decode cX4_deliverIt 1 = .ok (.iload_n 1, 1) := dk_27 (dk_at dksX4_deliverIt_0 1 rfl rfl)
theorem dX4_deliverIt_2 : decode cX4_deliverIt 2 = .ok (.invokevirtual 166, 3) := dk_182 0 166 (dk_at dksX4_deliverIt_0 2 rfl rfl)
theorem dX4_deliverIt_5 : decode cX4_deliverIt 5 = .ok (.istore_n 3, 1) := dk_62 (dk_at dksX4_deliverIt_0 5 rfl rfl)
theorem dX4_deliverIt_6 : decode cX4_deliverIt 6 = .ok (.iload_n 3, 1) := dk_29 (dk_at dksX4_deliverIt_0 6 rfl rfl)
theorem dX4_deliverIt_7 : decode cX4_deliverIt 7 = .ok (.iconst (-1), 1) := dk_2 (dk_at dksX4_deliverIt_0 7 rfl rfl)
theorem dX4_deliverIt_8 : decode cX4_deliverIt 8 = .ok (.if_icmp .ne 9, 3) := dk_160 0 9 (dk_at dksX4_deliverIt_0 8 rfl rfl)
theorem dX4_deliverIt_11 : decode cX4_deliverIt 11 = .ok (.aload_n 0, 1) := dk_42 (dk_at dksX4_deliverIt_0 11 rfl rfl)
theorem dX4_deliverIt_12 : decode cX4_deliverIt 12 = .ok (.iconst 1, 1) := dk_4 (dk_at dksX4_deliverIt_0 12 rfl rfl)
theorem dX4_deliverIt_13 : decode cX4_deliverIt 13 = .ok (.invokevirtual 88, 3) := dk_182 0 88 (dk_at dksX4_deliverIt_0 13 rfl rfl)
theorem dX4_deliverIt_16 : decode cX4_deliverIt 16 = .ok (.ireturn, 1) := dk_172 (dk_at dksX4_deliverIt_0 16 rfl rfl)
theorem dX4_deliverIt_17 : decode cX4_deliverIt 17 = .ok (.aload_n 0, 1) := dk_42 (dk_at dksX4_deliverIt_0 17 rfl rfl)
theorem dX4_deliverIt_18 : decode cX4_deliverIt 18 = .ok (.iload_n 2, 1) := dk_28 (dk_at dksX4_deliverIt_0 18 rfl rfl)
theorem dX4_deliverIt_19 : decode cX4_deliverIt 19 = .ok (.invokevirtual 84, 3) := dk_182 0 84 (dk_at dksX4_deliverIt_0 19 rfl rfl)
theorem dX4_deliverIt_22 : decode cX4_deliverIt 22 = .ok (.ifCond .ne 9, 3) := dk_154 0 9 (dk_at dksX4_deliverIt_1 0 rfl rfl)
theorem dX4_deliverIt_25 : decode cX4_deliverIt 25 = .ok (.aload_n 0, 1) := dk_42 (dk_at dksX4_deliverIt_1 3 rfl rfl)
theorem dX4_deliverIt_26 : decode cX4_deliverIt 26 = .ok (.iconst 2, 1) := dk_5 (dk_at dksX4_deliverIt_1 4 rfl rfl)
theorem dX4_deliverIt_27 : decode cX4_deliverIt 27 = .ok (.invokevirtual 88, 3) := dk_182 0 88 (dk_at dksX4_deliverIt_1 5 rfl rfl)
theorem dX4_deliverIt_30 : decode cX4_deliverIt 30 = .ok (.ireturn, 1) := dk_172 (dk_at dksX4_deliverIt_1 8 rfl rfl)
theorem dX4_deliverIt_31 : decode cX4_deliverIt 31 = .ok (.aload_n 0, 1) := dk_42 (dk_at dksX4_deliverIt_1 9 rfl rfl)
theorem dX4_deliverIt_32 : decode cX4_deliverIt 32 = .ok (.iload_n 2, 1) := dk_28 (dk_at dksX4_deliverIt_1 10 rfl rfl)
theorem dX4_deliverIt_33 : decode cX4_deliverIt 33 = .ok (.invokevirtual 81, 3) := dk_182 0 81 (dk_at dksX4_deliverIt_1 11 rfl rfl)
theorem dX4_deliverIt_36 : decode cX4_deliverIt 36 = .ok (.iconst 1, 1) := dk_4 (dk_at dksX4_deliverIt_1 14 rfl rfl)
theorem dX4_deliverIt_37 : decode cX4_deliverIt 37 = .ok (.if_icmp .ne 25, 3) := dk_160 0 25 (dk_at dksX4_deliverIt_1 15 rfl rfl)
theorem dX4_deliverIt_40 : decode cX4_deliverIt 40 = .ok (.aload_n 0, 1) := dk_42 (dk_at dksX4_deliverIt_1 18 rfl rfl)
theorem dX4_deliverIt_41 : decode cX4_deliverIt 41 = .ok (.iload_n 2, 1) := dk_28 (dk_at dksX4_deliverIt_1 19 rfl rfl)
theorem dX4_deliverIt_42 : decode cX4_deliverIt 42 = .ok (.invokevirtual 62, 3) := dk_182 0 62 (dk_at dksX4_deliverIt_1 20 rfl rfl)
theorem dX4_deliverIt_45 : decode cX4_deliverIt 45 = .ok (.aload_n 0, 1) := dk_42 (dk_at dksX4_deliverIt_1 23 rfl rfl)
theorem dX4_deliverIt_46 : decode cX4_deliverIt 46 = .ok (.getfield 9, 3) := dk_180 0 9 (dk_at dksX4_deliverIt_2 0 rfl rfl)
theorem dX4_deliverIt_49 : decode cX4_deliverIt 49 = .ok (.sipush 189, 3) := dk_17 0 189 (dk_at dksX4_deliverIt_2 3 rfl rfl)
theorem dX4_deliverIt_52 : decode cX4_deliverIt 52 = .ok (.iconst 4, 1) := dk_7 (dk_at dksX4_deliverIt_2 6 rfl rfl)
theorem dX4_deliverIt_53 : decode cX4_deliverIt 53 = .ok (.iload_n 3, 1) := dk_29 (dk_at dksX4_deliverIt_2 7 rfl rfl)
theorem dX4_deliverIt_54 : decode cX4_deliverIt 54 = .ok (.imul, 1) := dk_104 (dk_at dksX4_deliverIt_2 8 rfl rfl)
theorem dX4_deliverIt_55 : decode cX4_deliverIt 55 = .ok (.iadd, 1) := dk_96 (dk_at dksX4_deliverIt_2 9 rfl rfl)
theorem dX4_deliverIt_56 : decode cX4_deliverIt 56 = .ok (.iconst 1, 1) := dk_4 (dk_at dksX4_deliverIt_2 10 rfl rfl)
theorem dX4_deliverIt_57 : decode cX4_deliverIt 57 = .ok (.iadd, 1) := dk_96 (dk_at dksX4_deliverIt_2 11 rfl rfl)
theorem dX4_deliverIt_58 : decode cX4_deliverIt 58 = .ok (.iaload, 1) := dk_46 (dk_at dksX4_deliverIt_2 12 rfl rfl)
theorem dX4_deliverIt_59 : decode cX4_deliverIt 59 = .ok (.if_icmp .eq 9, 3) := dk_159 0 9 (dk_at dksX4_deliverIt_2 13 rfl rfl)
theorem dX4_deliverIt_62 : decode cX4_deliverIt 62 = .ok (.aload_n 0, 1) := dk_42 (dk_at dksX4_deliverIt_2 16 rfl rfl)
theorem dX4_deliverIt_63 : decode cX4_deliverIt 63 = .ok (.iconst 3, 1) := dk_6 (dk_at dksX4_deliverIt_2 17 rfl rfl)
theorem dX4_deliverIt_64 : decode cX4_deliverIt 64 = .ok (.invokevirtual 88, 3) := dk_182 0 88 (dk_at dksX4_deliverIt_2 18 rfl rfl)
theorem dX4_deliverIt_67 : decode cX4_deliverIt 67 = .ok (.ireturn, 1) := dk_172 (dk_at dksX4_deliverIt_2 21 rfl rfl)
theorem dX4_deliverIt_68 : decode cX4_deliverIt 68 = .ok (.aload_n 0, 1) := dk_42 (dk_at dksX4_deliverIt_2 22 rfl rfl)
theorem dX4_deliverIt_69 : decode cX4_deliverIt 69 = .ok (.iload_n 3, 1) := dk_29 (dk_at dksX4_deliverIt_2 23 rfl rfl)
theorem dX4_deliverIt_70 : decode cX4_deliverIt 70 = .ok (.invokevirtual 169, 3) := dk_182 0 169 (dk_at dksX4_deliverIt_3 0 rfl rfl)
theorem dX4_deliverIt_73 : decode cX4_deliverIt 73 = .ok (.istore 4, 2) := dk_54 4 (dk_at dksX4_deliverIt_3 3 rfl rfl)
theorem dX4_deliverIt_75 : decode cX4_deliverIt 75 = .ok (.aload_n 0, 1) := dk_42 (dk_at dksX4_deliverIt_3 5 rfl rfl)
theorem dX4_deliverIt_76 : decode cX4_deliverIt 76 = .ok (.getfield 9, 3) := dk_180 0 9 (dk_at dksX4_deliverIt_3 6 rfl rfl)
theorem dX4_deliverIt_79 : decode cX4_deliverIt 79 = .ok (.iconst 4, 1) := dk_7 (dk_at dksX4_deliverIt_3 9 rfl rfl)
theorem dX4_deliverIt_80 : decode cX4_deliverIt 80 = .ok (.dup2, 1) := dk_92 (dk_at dksX4_deliverIt_3 10 rfl rfl)
theorem dX4_deliverIt_81 : decode cX4_deliverIt 81 = .ok (.iaload, 1) := dk_46 (dk_at dksX4_deliverIt_3 11 rfl rfl)
theorem dX4_deliverIt_82 : decode cX4_deliverIt 82 = .ok (.iload 4, 2) := dk_21 4 (dk_at dksX4_deliverIt_3 12 rfl rfl)
theorem dX4_deliverIt_84 : decode cX4_deliverIt 84 = .ok (.iadd, 1) := dk_96 (dk_at dksX4_deliverIt_3 14 rfl rfl)
theorem dX4_deliverIt_85 : decode cX4_deliverIt 85 = .ok (.iastore, 1) := dk_79 (dk_at dksX4_deliverIt_3 15 rfl rfl)
theorem dX4_deliverIt_86 : decode cX4_deliverIt 86 = .ok (.aload_n 0, 1) := dk_42 (dk_at dksX4_deliverIt_3 16 rfl rfl)
theorem dX4_deliverIt_87 : decode cX4_deliverIt 87 = .ok (.getfield 9, 3) := dk_180 0 9 (dk_at dksX4_deliverIt_3 17 rfl rfl)
theorem dX4_deliverIt_90 : decode cX4_deliverIt 90 = .ok (.iload_n 2, 1) := dk_28 (dk_at dksX4_deliverIt_3 20 rfl rfl)
theorem dX4_deliverIt_91 : decode cX4_deliverIt 91 = .ok (.invokestatic 58, 3) := dk_184 0 58 (dk_at dksX4_deliverIt_3 21 rfl rfl)
theorem dX4_deliverIt_94 : decode cX4_deliverIt 94 = .ok (.iconst 2, 1) := dk_5 (dk_at dksX4_deliverIt_4 0 rfl rfl)
theorem dX4_deliverIt_95 : decode cX4_deliverIt 95 = .ok (.iastore, 1) := dk_79 (dk_at dksX4_deliverIt_4 1 rfl rfl)
theorem dX4_deliverIt_96 : decode cX4_deliverIt 96 = .ok (.sipush 189, 3) := dk_17 0 189 (dk_at dksX4_deliverIt_4 2 rfl rfl)
theorem dX4_deliverIt_99 : decode cX4_deliverIt 99 = .ok (.iconst 4, 1) := dk_7 (dk_at dksX4_deliverIt_4 5 rfl rfl)
theorem dX4_deliverIt_100 : decode cX4_deliverIt 100 = .ok (.iload_n 3, 1) := dk_29 (dk_at dksX4_deliverIt_4 6 rfl rfl)
theorem dX4_deliverIt_101 : decode cX4_deliverIt 101 = .ok (.imul, 1) := dk_104 (dk_at dksX4_deliverIt_4 7 rfl rfl)
theorem dX4_deliverIt_102 : decode cX4_deliverIt 102 = .ok (.iadd, 1) := dk_96 (dk_at dksX4_deliverIt_4 8 rfl rfl)
theorem dX4_deliverIt_103 : decode cX4_deliverIt 103 = .ok (.istore 5, 2) := dk_54 5 (dk_at dksX4_deliverIt_4 9 rfl rfl)
theorem dX4_deliverIt_105 : decode cX4_deliverIt 105 = .ok (.iload 5, 2) := dk_21 5 (dk_at dksX4_deliverIt_4 11 rfl rfl)
theorem dX4_deliverIt_107 : decode cX4_deliverIt 107 = .ok (.sipush 209, 3) := dk_17 0 209 (dk_at dksX4_deliverIt_4 13 rfl rfl)
theorem dX4_deliverIt_110 : decode cX4_deliverIt 110 = .ok (.if_icmp .ge 25, 3) := dk_162 0 25 (dk_at dksX4_deliverIt_4 16 rfl rfl)
theorem dX4_deliverIt_113 : decode cX4_deliverIt 113 = .ok (.aload_n 0, 1) := dk_42 (dk_at dksX4_deliverIt_4 19 rfl rfl)
theorem dX4_deliverIt_114 : decode cX4_deliverIt 114 = .ok (.getfield 9, 3) := dk_180 0 9 (dk_at dksX4_deliverIt_4 20 rfl rfl)
theorem dX4_deliverIt_117 : decode cX4_deliverIt 117 = .ok (.iload 5, 2) := dk_21 5 (dk_at dksX4_deliverIt_5 0 rfl rfl)
theorem dX4_deliverIt_119 : decode cX4_deliverIt 119 = .ok (.aload_n 0, 1) := dk_42 (dk_at dksX4_deliverIt_5 2 rfl rfl)
theorem dX4_deliverIt_120 : decode cX4_deliverIt 120 = .ok (.getfield 9, 3) := dk_180 0 9 (dk_at dksX4_deliverIt_5 3 rfl rfl)
theorem dX4_deliverIt_123 : decode cX4_deliverIt 123 = .ok (.iload 5, 2) := dk_21 5 (dk_at dksX4_deliverIt_5 6 rfl rfl)
theorem dX4_deliverIt_125 : decode cX4_deliverIt 125 = .ok (.iconst 4, 1) := dk_7 (dk_at dksX4_deliverIt_5 8 rfl rfl)
theorem dX4_deliverIt_126 : decode cX4_deliverIt 126 = .ok (.iadd, 1) := dk_96 (dk_at dksX4_deliverIt_5 9 rfl rfl)
theorem dX4_deliverIt_127 : decode cX4_deliverIt 127 = .ok (.iaload, 1) := dk_46 (dk_at dksX4_deliverIt_5 10 rfl rfl)
theorem dX4_deliverIt_128 : decode cX4_deliverIt 128 = .ok (.iastore, 1) := dk_79 (dk_at dksX4_deliverIt_5 11 rfl rfl)
theorem dX4_deliverIt_129 : decode cX4_deliverIt 129 = .ok (.iinc 5 1, 3) := dk_132 5 1 (dk_at dksX4_deliverIt_5 12 rfl rfl)
theorem dX4_deliverIt_132 : decode cX4_deliverIt 132 = .ok (.goto (-27), 3) := dk_167 255 229 (dk_at dksX4_deliverIt_5 15 rfl rfl)
theorem dX4_deliverIt_135 : decode cX4_deliverIt 135 = .ok (.sipush 209, 3) := dk_17 0 209 (dk_at dksX4_deliverIt_5 18 rfl rfl)
theorem dX4_deliverIt_138 : decode cX4_deliverIt 138 = .ok (.istore 5, 2) := dk_54 5 (dk_at dksX4_deliverIt_5 21 rfl rfl)
theorem dX4_deliverIt_140 : decode cX4_deliverIt 140 = .ok (.iload 5, 2) := dk_21 5 (dk_at dksX4_deliverIt_6 0 rfl rfl)
theorem dX4_deliverIt_142 : decode cX4_deliverIt 142 = .ok (.sipush 213, 3) := dk_17 0 213 (dk_at dksX4_deliverIt_6 2 rfl rfl)
theorem dX4_deliverIt_145 : decode cX4_deliverIt 145 = .ok (.if_icmp .ge 17, 3) := dk_162 0 17 (dk_at dksX4_deliverIt_6 5 rfl rfl)
theorem dX4_deliverIt_148 : decode cX4_deliverIt 148 = .ok (.aload_n 0, 1) := dk_42 (dk_at dksX4_deliverIt_6 8 rfl rfl)
theorem dX4_deliverIt_149 : decode cX4_deliverIt 149 = .ok (.getfield 9, 3) := dk_180 0 9 (dk_at dksX4_deliverIt_6 9 rfl rfl)
theorem dX4_deliverIt_152 : decode cX4_deliverIt 152 = .ok (.iload 5, 2) := dk_21 5 (dk_at dksX4_deliverIt_6 12 rfl rfl)
theorem dX4_deliverIt_154 : decode cX4_deliverIt 154 = .ok (.iconst 0, 1) := dk_3 (dk_at dksX4_deliverIt_6 14 rfl rfl)
theorem dX4_deliverIt_155 : decode cX4_deliverIt 155 = .ok (.iastore, 1) := dk_79 (dk_at dksX4_deliverIt_6 15 rfl rfl)
theorem dX4_deliverIt_156 : decode cX4_deliverIt 156 = .ok (.iinc 5 1, 3) := dk_132 5 1 (dk_at dksX4_deliverIt_6 16 rfl rfl)
theorem dX4_deliverIt_159 : decode cX4_deliverIt 159 = .ok (.goto (-19), 3) := dk_167 255 237 (dk_at dksX4_deliverIt_6 19 rfl rfl)
theorem dX4_deliverIt_162 : decode cX4_deliverIt 162 = .ok (.aload_n 0, 1) := dk_42 (dk_at dksX4_deliverIt_6 22 rfl rfl)
theorem dX4_deliverIt_163 : decode cX4_deliverIt 163 = .ok (.getfield 9, 3) := dk_180 0 9 (dk_at dksX4_deliverIt_7 0 rfl rfl)
theorem dX4_deliverIt_166 : decode cX4_deliverIt 166 = .ok (.iconst 2, 1) := dk_5 (dk_at dksX4_deliverIt_7 3 rfl rfl)
theorem dX4_deliverIt_167 : decode cX4_deliverIt 167 = .ok (.dup2, 1) := dk_92 (dk_at dksX4_deliverIt_7 4 rfl rfl)
theorem dX4_deliverIt_168 : decode cX4_deliverIt 168 = .ok (.iaload, 1) := dk_46 (dk_at dksX4_deliverIt_7 5 rfl rfl)
theorem dX4_deliverIt_169 : decode cX4_deliverIt 169 = .ok (.iconst 1, 1) := dk_4 (dk_at dksX4_deliverIt_7 6 rfl rfl)
theorem dX4_deliverIt_170 : decode cX4_deliverIt 170 = .ok (.isub, 1) := dk_100 (dk_at dksX4_deliverIt_7 7 rfl rfl)
theorem dX4_deliverIt_171 : decode cX4_deliverIt 171 = .ok (.iastore, 1) := dk_79 (dk_at dksX4_deliverIt_7 8 rfl rfl)
theorem dX4_deliverIt_172 : decode cX4_deliverIt 172 = .ok (.iload 4, 2) := dk_21 4 (dk_at dksX4_deliverIt_7 9 rfl rfl)
theorem dX4_deliverIt_174 : decode cX4_deliverIt 174 = .ok (.ireturn, 1) := dk_172 (dk_at dksX4_deliverIt_7 11 rfl rfl)
def dkwX4_find_1 : List UInt8 := [27, 160, 0, 5, 28, 172, 132, 2, 1, 167, 255, 225, 2, 172]
abbrev dktX4_find_1 : List UInt8 := dkwX4_find_1 ++ []
def dkwX4_find_0 : List UInt8 := [3, 61, 28, 42, 180, 0, 9, 5, 46, 162, 0, 27, 42, 180, 0, 9, 17, 0, 189, 7, 28, 104, 96, 46]
abbrev dktX4_find_0 : List UInt8 := dkwX4_find_0 ++ dktX4_find_1
theorem dksX4_find_0 : cX4_find.data.toList.drop 0 = dktX4_find_0 := by decide +kernel
theorem dksX4_find_1 : cX4_find.data.toList.drop 24 = dktX4_find_1 := dk_seg dksX4_find_0 24 rfl rfl
theorem dX4_find_0 : decode cX4_find 0 = .ok (.iconst 0, 1) := dk_3 (dk_at dksX4_find_0 0 rfl rfl)
theorem dX4_find_1 : decode cX4_find 1 = .ok (.istore_n 2, 1) := dk_61 (dk_at dksX4_find_0 1 rfl rfl)
theorem dX4_find_2 : decode cX4_find 2 = .ok (.iload_n 2, 1) := dk_28 (dk_at dksX4_find_0 2 rfl rfl)
theorem dX4_find_3 : decode cX4_find 3 = .ok (.aload_n 0, 1) := dk_42 (dk_at dksX4_find_0 3 rfl rfl)
theorem dX4_find_4 : decode cX4_find 4 = .ok (.getfield 9, 3) := dk_180 0 9 (dk_at dksX4_find_0 4 rfl rfl)
theorem dX4_find_7 : decode cX4_find 7 = .ok (.iconst 2, 1) := dk_5 (dk_at dksX4_find_0 7 rfl rfl)
theorem dX4_find_8 : decode cX4_find 8 = .ok (.iaload, 1) := dk_46 (dk_at dksX4_find_0 8 rfl rfl)
theorem dX4_find_9 : decode cX4_find 9 = .ok (.if_icmp .ge 27, 3) := dk_162 0 27 (dk_at dksX4_find_0 9 rfl rfl)
theorem dX4_find_12 : decode cX4_find 12 = .ok (.aload_n 0, 1) := dk_42 (dk_at dksX4_find_0 12 rfl rfl)
theorem dX4_find_13 : decode cX4_find 13 = .ok (.getfield 9, 3) := dk_180 0 9 (dk_at dksX4_find_0 13 rfl rfl)
theorem dX4_find_16 : decode cX4_find 16 = .ok (.sipush 189, 3) := dk_17 0 189 (dk_at dksX4_find_0 16 rfl rfl)
theorem dX4_find_19 : decode cX4_find 19 = .ok (.iconst 4, 1) := dk_7 (dk_at dksX4_find_0 19 rfl rfl)
theorem dX4_find_20 : decode cX4_find 20 = .ok (.iload_n 2, 1) := dk_28 (dk_at dksX4_find_0 20 rfl rfl)
theorem dX4_find_21 : decode cX4_find 21 = .ok (.imul, 1) := dk_104 (dk_at dksX4_find_0 21 rfl rfl)
theorem dX4_find_22 : decode cX4_find 22 = .ok (.iadd, 1) := dk_96 (dk_at dksX4_find_0 22 rfl rfl)
theorem dX4_find_23 : decode cX4_find 23 = .ok (.iaload, 1) := dk_46 (dk_at dksX4_find_0 23 rfl rfl)
theorem dX4_find_24 : decode cX4_find 24 = .ok (.iload_n 1, 1) := dk_27 (dk_at dksX4_find_1 0 rfl rfl)
theorem dX4_find_25 : decode cX4_find 25 = .ok (.if_icmp .ne 5, 3) := dk_160 0 5 (dk_at dksX4_find_1 1 rfl rfl)
theorem dX4_find_28 : decode cX4_find 28 = .ok (.iload_n 2, 1) := dk_28 (dk_at dksX4_find_1 4 rfl rfl)
theorem dX4_find_29 : decode cX4_find 29 = .ok (.ireturn, 1) := dk_172 (dk_at dksX4_find_1 5 rfl rfl)
theorem dX4_find_30 : decode cX4_find 30 = .ok (.iinc 2 1, 3) := dk_132 2 1 (dk_at dksX4_find_1 6 rfl rfl)
theorem dX4_find_33 : decode cX4_find 33 = .ok (.goto (-31), 3) := dk_167 255 225 (dk_at dksX4_find_1 9 rfl rfl)
theorem dX4_find_36 : decode cX4_find 36 = .ok (.iconst (-1), 1) := dk_2 (dk_at dksX4_find_1 12 rfl rfl)
theorem dX4_find_37 : decode cX4_find 37 = .ok (.ireturn, 1) := dk_172 (dk_at dksX4_find_1 13 rfl rfl)
def dkwX4_coins_1 : List UInt8 := [42, 180, 0, 9, 28, 5, 96, 46, 100, 184, 0, 65, 100, 184, 0, 65, 172]
abbrev dktX4_coins_1 : List UInt8 := dkwX4_coins_1 ++ []
def dkwX4_coins_0 : List UInt8 := [17, 0, 189, 7, 27, 104, 96, 61, 3, 42, 180, 0, 9, 28, 6, 96, 46, 3, 42, 180, 0, 9, 4, 46]
abbrev dktX4_coins_0 : List UInt8 := dkwX4_coins_0 ++ dktX4_coins_1
theorem dksX4_coins_0 : cX4_coins.data.toList.drop 0 = dktX4_coins_0 := by decide +kernel
theorem dksX4_coins_1 : cX4_coins.data.toList.drop 24 = dktX4_coins_1 := dk_seg dksX4_coins_0 24 rfl rfl
theorem dX4_coins_0 : decode cX4_coins 0 = .ok (.sipush 189, 3) := dk_17 0 189 (dk_at dksX4_coins_0 0 rfl rfl)
theorem dX4_coins_3 : decode cX4_coins 3 = .ok (.iconst 4, 1) := dk_7 (dk_at dksX4_coins_0 3 rfl rfl)
theorem dX4_coins_4 : decode cX4_coins 4 = .ok (.iload_n 1, 1) := dk_27 (dk_at dksX4_coins_0 4 rfl rfl)
theorem dX4_coins_5 : decode cX4_coins 5 = .ok (.imul, 1) := dk_104 (dk_at dksX4_coins_0 5 rfl rfl)
theorem dX4_coins_6 : decode cX4_coins 6 = .ok (.iadd, 1) := dk_96 (dk_at dksX4_coins_0 6 rfl rfl)
theorem dX4_coins_7 : decode cX4_coins 7 = .ok (.istore_n 2, 1) := dk_61 (dk_at dksX4_coins_0 7 rfl rfl)
theorem dX4_coins_8 : decode cX4_coins 8 = .ok (.iconst 0, 1) := dk_3 (dk_at dksX4_coins_0 8 rfl rfl)
theorem dX4_coins_9 : decode cX4_coins 9 = .ok (.aload_n 0, 1) := dk_42 (dk_at dksX4_coins_0 9 rfl rfl)
theorem dX4_coins_10 : decode cX4_coins 10 = .ok (.getfield 9, 3) := dk_180 0 9 (dk_at dksX4_coins_0 10 rfl rfl)
theorem dX4_coins_13 : decode cX4_coins 13 = .ok (.iload_n 2, 1) := dk_28 (dk_at dksX4_coins_0 13 rfl rfl)
theorem dX4_coins_14 : decode cX4_coins 14 = .ok (.iconst 3, 1) := dk_6 (dk_at dksX4_coins_0 14 rfl rfl)
theorem dX4_coins_15 : decode cX4_coins 15 = .ok (.iadd, 1) := dk_96 (dk_at dksX4_coins_0 15 rfl rfl)
theorem dX4_coins_16 : decode cX4_coins 16 = .ok (.iaload, 1) := dk_46 (dk_at dksX4_coins_0 16 rfl rfl)
theorem dX4_coins_17 : decode cX4_coins 17 = .ok (.iconst 0, 1) := dk_3 (dk_at dksX4_coins_0 17 rfl rfl)
theorem dX4_coins_18 : decode cX4_coins 18 = .ok (.aload_n 0, 1) := dk_42 (dk_at dksX4_coins_0 18 rfl rfl)
theorem dX4_coins_19 : decode cX4_coins 19 = .ok (.getfield 9, 3) := dk_180 0 9 (dk_at dksX4_coins_0 19 rfl rfl)
theorem dX4_coins_22 : decode cX4_coins 22 = .ok (.iconst 1, 1) := dk_4 (dk_at dksX4_coins_0 22 rfl rfl)
theorem dX4_coins_23 : decode cX4_coins 23 = .ok (.iaload, 1) := dk_46 (dk_at dksX4_coins_0 23 rfl rfl)
theorem dX4_coins_24 : decode cX4_coins 24 = .ok (.aload_n 0, 1) := dk_42 (dk_at dksX4_coins_1 0 rfl rfl)
theorem dX4_coins_25 : decode cX4_coins 25 = .ok (.getfield 9, 3) := dk_180 0 9 (dk_at dksX4_coins_1 1 rfl rfl)
theorem dX4_coins_28 : decode cX4_coins 28 = .ok (.iload_n 2, 1) := dk_28 (dk_at dksX4_coins_1 4 rfl rfl)
theorem dX4_coins_29 : decode cX4_coins 29 = .ok (.iconst 2, 1) := dk_5 (dk_at dksX4_coins_1 5 rfl rfl)
theorem dX4_coins_30 : decode cX4_coins 30 = .ok (.iadd, 1) := dk_96 (dk_at dksX4_coins_1 6 rfl rfl)
theorem dX4_coins_31 : decode cX4_coins 31 = .ok (.iaload, 1) := dk_46 (dk_at dksX4_coins_1 7 rfl rfl)
theorem dX4_coins_32 : decode cX4_coins 32 = .ok (.isub, 1) := dk_100 (dk_at dksX4_coins_1 8 rfl rfl)
theorem dX4_coins_33 : decode cX4_coins 33 = .ok (.invokestatic 65, 3) := dk_184 0 65 (dk_at dksX4_coins_1 9 rfl rfl)
theorem dX4_coins_36 : decode cX4_coins 36 = .ok (.isub, 1) := dk_100 (dk_at dksX4_coins_1 12 rfl rfl)
theorem dX4_coins_37 : decode cX4_coins 37 = .ok (.invokestatic 65, 3) := dk_184 0 65 (dk_at dksX4_coins_1 13 rfl rfl)
theorem dX4_coins_40 : decode cX4_coins 40 = .ok (.ireturn, 1) := dk_172 (dk_at dksX4_coins_1 16 rfl rfl)
def dkwX4_hullCount_0 : List UInt8 := [42, 3, 181, 0, 48, 42, 180, 0, 9, 3, 46, 172]
abbrev dktX4_hullCount_0 : List UInt8 := dkwX4_hullCount_0 ++ []
theorem dksX4_hullCount_0 : cX4_hullCount.data.toList.drop 0 = dktX4_hullCount_0 := by decide +kernel
theorem dX4_hullCount_0 : decode cX4_hullCount 0 = .ok (.aload_n 0, 1) := dk_42 (dk_at dksX4_hullCount_0 0 rfl rfl)
theorem dX4_hullCount_1 : decode cX4_hullCount 1 = .ok (.iconst 0, 1) := dk_3 (dk_at dksX4_hullCount_0 1 rfl rfl)
theorem dX4_hullCount_2 : decode cX4_hullCount 2 = .ok (.putfield 48, 3) := dk_181 0 48 (dk_at dksX4_hullCount_0 2 rfl rfl)
theorem dX4_hullCount_5 : decode cX4_hullCount 5 = .ok (.aload_n 0, 1) := dk_42 (dk_at dksX4_hullCount_0 5 rfl rfl)
theorem dX4_hullCount_6 : decode cX4_hullCount 6 = .ok (.getfield 9, 3) := dk_180 0 9 (dk_at dksX4_hullCount_0 6 rfl rfl)
theorem dX4_hullCount_9 : decode cX4_hullCount 9 = .ok (.iconst 0, 1) := dk_3 (dk_at dksX4_hullCount_0 9 rfl rfl)
theorem dX4_hullCount_10 : decode cX4_hullCount 10 = .ok (.iaload, 1) := dk_46 (dk_at dksX4_hullCount_0 10 rfl rfl)
theorem dX4_hullCount_11 : decode cX4_hullCount 11 = .ok (.ireturn, 1) := dk_172 (dk_at dksX4_hullCount_0 11 rfl rfl)
def dkwX4_stateOf_0 : List UInt8 := [42, 27, 3, 182, 0, 175, 172]
abbrev dktX4_stateOf_0 : List UInt8 := dkwX4_stateOf_0 ++ []
theorem dksX4_stateOf_0 : cX4_stateOf.data.toList.drop 0 = dktX4_stateOf_0 := by decide +kernel
theorem dX4_stateOf_0 : decode cX4_stateOf 0 = .ok (.aload_n 0, 1) := dk_42 (dk_at dksX4_stateOf_0 0 rfl rfl)
theorem dX4_stateOf_1 : decode cX4_stateOf 1 = .ok (.iload_n 1, 1) := dk_27 (dk_at dksX4_stateOf_0 1 rfl rfl)
theorem dX4_stateOf_2 : decode cX4_stateOf 2 = .ok (.iconst 0, 1) := dk_3 (dk_at dksX4_stateOf_0 2 rfl rfl)
theorem dX4_stateOf_3 : decode cX4_stateOf 3 = .ok (.invokevirtual 175, 3) := dk_182 0 175 (dk_at dksX4_stateOf_0 3 rfl rfl)
theorem dX4_stateOf_6 : decode cX4_stateOf 6 = .ok (.ireturn, 1) := dk_172 (dk_at dksX4_stateOf_0 6 rfl rfl)
def dkwX4_ofHull_1 : List UInt8 := [167, 0, 8, 42, 4, 182, 0, 88, 172]
abbrev dktX4_ofHull_1 : List UInt8 := dkwX4_ofHull_1 ++ []
def dkwX4_ofHull_0 : List UInt8 := [42, 3, 181, 0, 48, 42, 27, 182, 0, 84, 153, 0, 17, 42, 180, 0, 9, 27, 184, 0, 58, 28, 96, 46]
abbrev dktX4_ofHull_0 : List UInt8 := dkwX4_ofHull_0 ++ dktX4_ofHull_1
theorem dksX4_ofHull_0 : cX4_ofHull.data.toList.drop 0 = dktX4_ofHull_0 := by decide +kernel
theorem dksX4_ofHull_1 : cX4_ofHull.data.toList.drop 24 = dktX4_ofHull_1 := dk_seg dksX4_ofHull_0 24 rfl rfl
theorem dX4_ofHull_0 : decode cX4_ofHull 0 = .ok (.aload_n 0, 1) := dk_42 (dk_at dksX4_ofHull_0 0 rfl rfl)
theorem dX4_ofHull_1 : decode cX4_ofHull 1 = .ok (.iconst 0, 1) := dk_3 (dk_at dksX4_ofHull_0 1 rfl rfl)
theorem dX4_ofHull_2 : decode cX4_ofHull 2 = .ok (.putfield 48, 3) := dk_181 0 48 (dk_at dksX4_ofHull_0 2 rfl rfl)
theorem dX4_ofHull_5 : decode cX4_ofHull 5 = .ok (.aload_n 0, 1) := dk_42 (dk_at dksX4_ofHull_0 5 rfl rfl)
theorem dX4_ofHull_6 : decode cX4_ofHull 6 = .ok (.iload_n 1, 1) := dk_27 (dk_at dksX4_ofHull_0 6 rfl rfl)
theorem dX4_ofHull_7 : decode cX4_ofHull 7 = .ok (.invokevirtual 84, 3) := dk_182 0 84 (dk_at dksX4_ofHull_0 7 rfl rfl)
theorem dX4_ofHull_10 : decode cX4_ofHull 10 = .ok (.ifCond .eq 17, 3) := dk_153 0 17 (dk_at dksX4_ofHull_0 10 rfl rfl)
theorem dX4_ofHull_13 : decode cX4_ofHull 13 = .ok (.aload_n 0, 1) := dk_42 (dk_at dksX4_ofHull_0 13 rfl rfl)
theorem dX4_ofHull_14 : decode cX4_ofHull 14 = .ok (.getfield 9, 3) := dk_180 0 9 (dk_at dksX4_ofHull_0 14 rfl rfl)
theorem dX4_ofHull_17 : decode cX4_ofHull 17 = .ok (.iload_n 1, 1) := dk_27 (dk_at dksX4_ofHull_0 17 rfl rfl)
theorem dX4_ofHull_18 : decode cX4_ofHull 18 = .ok (.invokestatic 58, 3) := dk_184 0 58 (dk_at dksX4_ofHull_0 18 rfl rfl)
theorem dX4_ofHull_21 : decode cX4_ofHull 21 = .ok (.iload_n 2, 1) := dk_28 (dk_at dksX4_ofHull_0 21 rfl rfl)
theorem dX4_ofHull_22 : decode cX4_ofHull 22 = .ok (.iadd, 1) := dk_96 (dk_at dksX4_ofHull_0 22 rfl rfl)
theorem dX4_ofHull_23 : decode cX4_ofHull 23 = .ok (.iaload, 1) := dk_46 (dk_at dksX4_ofHull_0 23 rfl rfl)
theorem dX4_ofHull_24 : decode cX4_ofHull 24 = .ok (.goto 8, 3) := dk_167 0 8 (dk_at dksX4_ofHull_1 0 rfl rfl)
theorem dX4_ofHull_27 : decode cX4_ofHull 27 = .ok (.aload_n 0, 1) := dk_42 (dk_at dksX4_ofHull_1 3 rfl rfl)
theorem dX4_ofHull_28 : decode cX4_ofHull 28 = .ok (.iconst 1, 1) := dk_4 (dk_at dksX4_ofHull_1 4 rfl rfl)
theorem dX4_ofHull_29 : decode cX4_ofHull 29 = .ok (.invokevirtual 88, 3) := dk_182 0 88 (dk_at dksX4_ofHull_1 5 rfl rfl)
theorem dX4_ofHull_32 : decode cX4_ofHull 32 = .ok (.ireturn, 1) := dk_172 (dk_at dksX4_ofHull_1 8 rfl rfl)
def dkwX4_frameCount_0 : List UInt8 := [42, 27, 4, 182, 0, 175, 172]
abbrev dktX4_frameCount_0 : List UInt8 := dkwX4_frameCount_0 ++ []
theorem dksX4_frameCount_0 : cX4_frameCount.data.toList.drop 0 = dktX4_frameCount_0 := by decide +kernel
theorem dX4_frameCount_0 : decode cX4_frameCount 0 = .ok (.aload_n 0, 1) := dk_42 (dk_at dksX4_frameCount_0 0 rfl rfl)
theorem dX4_frameCount_1 : decode cX4_frameCount 1 = .ok (.iload_n 1, 1) := dk_27 (dk_at dksX4_frameCount_0 1 rfl rfl)
theorem dX4_frameCount_2 : decode cX4_frameCount 2 = .ok (.iconst 1, 1) := dk_4 (dk_at dksX4_frameCount_0 2 rfl rfl)
theorem dX4_frameCount_3 : decode cX4_frameCount 3 = .ok (.invokevirtual 175, 3) := dk_182 0 175 (dk_at dksX4_frameCount_0 3 rfl rfl)
theorem dX4_frameCount_6 : decode cX4_frameCount 6 = .ok (.ireturn, 1) := dk_172 (dk_at dksX4_frameCount_0 6 rfl rfl)
def dkwX4_widthOf_2 : List UInt8 := [153, 0, 7, 3, 167, 0, 4, 4, 182, 0, 71, 167, 0, 8, 42, 4, 182, 0, 88, 172]
abbrev dktX4_widthOf_2 : List UInt8 := dkwX4_widthOf_2 ++ []
def dkwX4_widthOf_1 : List UInt8 := [184, 0, 54, 153, 0, 7, 4, 167, 0, 4, 3, 54, 4, 21, 4, 153, 0, 21, 42, 27, 28, 29]
abbrev dktX4_widthOf_1 : List UInt8 := dkwX4_widthOf_1 ++ dktX4_widthOf_2
def dkwX4_widthOf_0 : List UInt8 := [42, 3, 181, 0, 48, 42, 27, 182, 0, 84, 153, 0, 24, 28, 133, 9, 42, 27, 182, 0, 62, 4, 100, 133]
abbrev dktX4_widthOf_0 : List UInt8 := dkwX4_widthOf_0 ++ dktX4_widthOf_1
theorem dksX4_widthOf_0 : cX4_widthOf.data.toList.drop 0 = dktX4_widthOf_0 := by decide +kernel
theorem dksX4_widthOf_1 : cX4_widthOf.data.toList.drop 24 = dktX4_widthOf_1 := dk_seg dksX4_widthOf_0 24 rfl rfl
theorem dksX4_widthOf_2 : cX4_widthOf.data.toList.drop 46 = dktX4_widthOf_2 := dk_seg dksX4_widthOf_1 22 rfl rfl
theorem dX4_widthOf_0 : decode cX4_widthOf 0 = .ok (.aload_n 0, 1) := dk_42 (dk_at dksX4_widthOf_0 0 rfl rfl)
theorem dX4_widthOf_1 : decode cX4_widthOf 1 = .ok (.iconst 0, 1) := dk_3 (dk_at dksX4_widthOf_0 1 rfl rfl)
theorem dX4_widthOf_2 : decode cX4_widthOf 2 = .ok (.putfield 48, 3) := dk_181 0 48 (dk_at dksX4_widthOf_0 2 rfl rfl)
theorem dX4_widthOf_5 : decode cX4_widthOf 5 = .ok (.aload_n 0, 1) := dk_42 (dk_at dksX4_widthOf_0 5 rfl rfl)
theorem dX4_widthOf_6 : decode cX4_widthOf 6 = .ok (.iload_n 1, 1) := dk_27 (dk_at dksX4_widthOf_0 6 rfl rfl)
theorem dX4_widthOf_7 : decode cX4_widthOf 7 = .ok (.invokevirtual 84, 3) := dk_182 0 84 (dk_at dksX4_widthOf_0 7 rfl rfl)
theorem dX4_widthOf_10 : decode cX4_widthOf 10 = .ok (.ifCond .eq 24, 3) := dk_153 0 24 (dk_at dksX4_widthOf_0 10 rfl rfl)
theorem dX4_widthOf_13 : decode cX4_widthOf 13 = .ok (.iload_n 2, 1) := dk_28 (dk_at dksX4_widthOf_0 13 rfl rfl)
theorem dX4_widthOf_14 : decode cX4_widthOf 14 = .ok (.i2l, 1) := dk_133 (dk_at dksX4_widthOf_0 14 rfl rfl)
theorem dX4_widthOf_15 : decode cX4_widthOf 15 = .ok (.lconst 0, 1) := dk_9 (dk_at dksX4_widthOf_0 15 rfl rfl)
theorem dX4_widthOf_16 : decode cX4_widthOf 16 = .ok (.aload_n 0, 1) := dk_42 (dk_at dksX4_widthOf_0 16 rfl rfl)
theorem dX4_widthOf_17 : decode cX4_widthOf 17 = .ok (.iload_n 1, 1) := dk_27 (dk_at dksX4_widthOf_0 17 rfl rfl)
theorem dX4_widthOf_18 : decode cX4_widthOf 18 = .ok (.invokevirtual 62, 3) := dk_182 0 62 (dk_at dksX4_widthOf_0 18 rfl rfl)
theorem dX4_widthOf_21 : decode cX4_widthOf 21 = .ok (.iconst 1, 1) := dk_4 (dk_at dksX4_widthOf_0 21 rfl rfl)
theorem dX4_widthOf_22 : decode cX4_widthOf 22 = .ok (.isub, 1) := dk_100 (dk_at dksX4_widthOf_0 22 rfl rfl)
theorem dX4_widthOf_23 : decode cX4_widthOf 23 = .ok (.i2l, 1) := dk_133 (dk_at dksX4_widthOf_0 23 rfl rfl)
theorem dX4_widthOf_24 : decode cX4_widthOf 24 = .ok (.invokestatic 54, 3) := dk_184 0 54 (dk_at dksX4_widthOf_1 0 rfl rfl)
theorem dX4_widthOf_27 : decode cX4_widthOf 27 = .ok (.ifCond .eq 7, 3) := dk_153 0 7 (dk_at dksX4_widthOf_1 3 rfl rfl)
theorem dX4_widthOf_30 : decode cX4_widthOf 30 = .ok (.iconst 1, 1) := dk_4 (dk_at dksX4_widthOf_1 6 rfl rfl)
theorem dX4_widthOf_31 : decode cX4_widthOf 31 = .ok (.goto 4, 3) := dk_167 0 4 (dk_at dksX4_widthOf_1 7 rfl rfl)
theorem dX4_widthOf_34 : decode cX4_widthOf 34 = .ok (.iconst 0, 1) := dk_3 (dk_at dksX4_widthOf_1 10 rfl rfl)
theorem dX4_widthOf_35 : decode cX4_widthOf 35 = .ok (.istore 4, 2) := dk_54 4 (dk_at dksX4_widthOf_1 11 rfl rfl)
theorem dX4_widthOf_37 : decode cX4_widthOf 37 = .ok (.iload 4, 2) := dk_21 4 (dk_at dksX4_widthOf_1 13 rfl rfl)
theorem dX4_widthOf_39 : decode cX4_widthOf 39 = .ok (.ifCond .eq 21, 3) := dk_153 0 21 (dk_at dksX4_widthOf_1 15 rfl rfl)
theorem dX4_widthOf_42 : decode cX4_widthOf 42 = .ok (.aload_n 0, 1) := dk_42 (dk_at dksX4_widthOf_1 18 rfl rfl)
theorem dX4_widthOf_43 : decode cX4_widthOf 43 = .ok (.iload_n 1, 1) := dk_27 (dk_at dksX4_widthOf_1 19 rfl rfl)
theorem dX4_widthOf_44 : decode cX4_widthOf 44 = .ok (.iload_n 2, 1) := dk_28 (dk_at dksX4_widthOf_1 20 rfl rfl)
theorem dX4_widthOf_45 : decode cX4_widthOf 45 = .ok (.iload_n 3, 1) := dk_29 (dk_at dksX4_widthOf_1 21 rfl rfl)
theorem dX4_widthOf_46 : decode cX4_widthOf 46 = .ok (.ifCond .eq 7, 3) := dk_153 0 7 (dk_at dksX4_widthOf_2 0 rfl rfl)
theorem dX4_widthOf_49 : decode cX4_widthOf 49 = .ok (.iconst 0, 1) := dk_3 (dk_at dksX4_widthOf_2 3 rfl rfl)
theorem dX4_widthOf_50 : decode cX4_widthOf 50 = .ok (.goto 4, 3) := dk_167 0 4 (dk_at dksX4_widthOf_2 4 rfl rfl)
theorem dX4_widthOf_53 : decode cX4_widthOf 53 = .ok (.iconst 1, 1) := dk_4 (dk_at dksX4_widthOf_2 7 rfl rfl)
theorem dX4_widthOf_54 : decode cX4_widthOf 54 = .ok (.invokevirtual 71, 3) := dk_182 0 71 (dk_at dksX4_widthOf_2 8 rfl rfl)
theorem dX4_widthOf_57 : decode cX4_widthOf 57 = .ok (.goto 8, 3) := dk_167 0 8 (dk_at dksX4_widthOf_2 11 rfl rfl)
theorem dX4_widthOf_60 : decode cX4_widthOf 60 = .ok (.aload_n 0, 1) := dk_42 (dk_at dksX4_widthOf_2 14 rfl rfl)
theorem dX4_widthOf_61 : decode cX4_widthOf 61 = .ok (.iconst 1, 1) := dk_4 (dk_at dksX4_widthOf_2 15 rfl rfl)
theorem dX4_widthOf_62 : decode cX4_widthOf 62 = .ok (.invokevirtual 88, 3) := dk_182 0 88 (dk_at dksX4_widthOf_2 16 rfl rfl)
theorem dX4_widthOf_65 : decode cX4_widthOf 65 = .ok (.ireturn, 1) := dk_172 (dk_at dksX4_widthOf_2 19 rfl rfl)
def dkwX4_caulkingOf_1 : List UInt8 := [96, 28, 96, 46, 167, 0, 8, 42, 4, 182, 0, 88, 172]
abbrev dktX4_caulkingOf_1 : List UInt8 := dkwX4_caulkingOf_1 ++ []
def dkwX4_caulkingOf_0 : List UInt8 := [42, 3, 181, 0, 48, 42, 27, 28, 182, 0, 132, 153, 0, 20, 42, 180, 0, 9, 27, 184, 0, 58, 16, 20]
abbrev dktX4_caulkingOf_0 : List UInt8 := dkwX4_caulkingOf_0 ++ dktX4_caulkingOf_1
theorem dksX4_caulkingOf_0 : cX4_caulkingOf.data.toList.drop 0 = dktX4_caulkingOf_0 := by decide +kernel
theorem dksX4_caulkingOf_1 : cX4_caulkingOf.data.toList.drop 24 = dktX4_caulkingOf_1 := dk_seg dksX4_caulkingOf_0 24 rfl rfl
theorem dX4_caulkingOf_0 : decode cX4_caulkingOf 0 = .ok (.aload_n 0, 1) := dk_42 (dk_at dksX4_caulkingOf_0 0 rfl rfl)
theorem dX4_caulkingOf_1 : decode cX4_caulkingOf 1 = .ok (.iconst 0, 1) := dk_3 (dk_at dksX4_caulkingOf_0 1 rfl rfl)
theorem dX4_caulkingOf_2 : decode cX4_caulkingOf 2 = .ok (.putfield 48, 3) := dk_181 0 48 (dk_at dksX4_caulkingOf_0 2 rfl rfl)
theorem dX4_caulkingOf_5 : decode cX4_caulkingOf 5 = .ok (.aload_n 0, 1) := dk_42 (dk_at dksX4_caulkingOf_0 5 rfl rfl)
theorem dX4_caulkingOf_6 : decode cX4_caulkingOf 6 = .ok (.iload_n 1, 1) := dk_27 (dk_at dksX4_caulkingOf_0 6 rfl rfl)
theorem dX4_caulkingOf_7 : decode cX4_caulkingOf 7 = .ok (.iload_n 2, 1) := dk_28 (dk_at dksX4_caulkingOf_0 7 rfl rfl)
theorem dX4_caulkingOf_8 : decode cX4_caulkingOf 8 = .ok (.invokevirtual 132, 3) := dk_182 0 132 (dk_at dksX4_caulkingOf_0 8 rfl rfl)
theorem dX4_caulkingOf_11 : decode cX4_caulkingOf 11 = .ok (.ifCond .eq 20, 3) := dk_153 0 20 (dk_at dksX4_caulkingOf_0 11 rfl rfl)
theorem dX4_caulkingOf_14 : decode cX4_caulkingOf 14 = .ok (.aload_n 0, 1) := dk_42 (dk_at dksX4_caulkingOf_0 14 rfl rfl)
theorem dX4_caulkingOf_15 : decode cX4_caulkingOf 15 = .ok (.getfield 9, 3) := dk_180 0 9 (dk_at dksX4_caulkingOf_0 15 rfl rfl)
theorem dX4_caulkingOf_18 : decode cX4_caulkingOf 18 = .ok (.iload_n 1, 1) := dk_27 (dk_at dksX4_caulkingOf_0 18 rfl rfl)
theorem dX4_caulkingOf_19 : decode cX4_caulkingOf 19 = .ok (.invokestatic 58, 3) := dk_184 0 58 (dk_at dksX4_caulkingOf_0 19 rfl rfl)
theorem dX4_caulkingOf_22 : decode cX4_caulkingOf 22 = .ok (.bipush 20, 2) := dk_16 20 (dk_at dksX4_caulkingOf_0 22 rfl rfl)
theorem dX4_caulkingOf_24 : decode cX4_caulkingOf 24 = .ok (.iadd, 1) := dk_96 (dk_at dksX4_caulkingOf_1 0 rfl rfl)
theorem dX4_caulkingOf_25 : decode cX4_caulkingOf 25 = .ok (.iload_n 2, 1) := dk_28 (dk_at dksX4_caulkingOf_1 1 rfl rfl)
theorem dX4_caulkingOf_26 : decode cX4_caulkingOf 26 = .ok (.iadd, 1) := dk_96 (dk_at dksX4_caulkingOf_1 2 rfl rfl)
theorem dX4_caulkingOf_27 : decode cX4_caulkingOf 27 = .ok (.iaload, 1) := dk_46 (dk_at dksX4_caulkingOf_1 3 rfl rfl)
theorem dX4_caulkingOf_28 : decode cX4_caulkingOf 28 = .ok (.goto 8, 3) := dk_167 0 8 (dk_at dksX4_caulkingOf_1 4 rfl rfl)
theorem dX4_caulkingOf_31 : decode cX4_caulkingOf 31 = .ok (.aload_n 0, 1) := dk_42 (dk_at dksX4_caulkingOf_1 7 rfl rfl)
theorem dX4_caulkingOf_32 : decode cX4_caulkingOf 32 = .ok (.iconst 1, 1) := dk_4 (dk_at dksX4_caulkingOf_1 8 rfl rfl)
theorem dX4_caulkingOf_33 : decode cX4_caulkingOf 33 = .ok (.invokevirtual 88, 3) := dk_182 0 88 (dk_at dksX4_caulkingOf_1 9 rfl rfl)
theorem dX4_caulkingOf_36 : decode cX4_caulkingOf 36 = .ok (.ireturn, 1) := dk_172 (dk_at dksX4_caulkingOf_1 12 rfl rfl)
def dkwX4_waterIn_0 : List UInt8 := [42, 27, 6, 182, 0, 175, 172]
abbrev dktX4_waterIn_0 : List UInt8 := dkwX4_waterIn_0 ++ []
theorem dksX4_waterIn_0 : cX4_waterIn.data.toList.drop 0 = dktX4_waterIn_0 := by decide +kernel
theorem dX4_waterIn_0 : decode cX4_waterIn 0 = .ok (.aload_n 0, 1) := dk_42 (dk_at dksX4_waterIn_0 0 rfl rfl)
theorem dX4_waterIn_1 : decode cX4_waterIn 1 = .ok (.iload_n 1, 1) := dk_27 (dk_at dksX4_waterIn_0 1 rfl rfl)
theorem dX4_waterIn_2 : decode cX4_waterIn 2 = .ok (.iconst 3, 1) := dk_6 (dk_at dksX4_waterIn_0 2 rfl rfl)
theorem dX4_waterIn_3 : decode cX4_waterIn 3 = .ok (.invokevirtual 175, 3) := dk_182 0 175 (dk_at dksX4_waterIn_0 3 rfl rfl)
theorem dX4_waterIn_6 : decode cX4_waterIn 6 = .ok (.ireturn, 1) := dk_172 (dk_at dksX4_waterIn_0 6 rfl rfl)
def dkwX4_weightOf_1 : List UInt8 := [182, 0, 88, 172]
abbrev dktX4_weightOf_1 : List UInt8 := dkwX4_weightOf_1 ++ []
def dkwX4_weightOf_0 : List UInt8 := [42, 3, 181, 0, 48, 42, 27, 182, 0, 84, 153, 0, 11, 42, 27, 182, 0, 117, 167, 0, 8, 42, 4]
abbrev dktX4_weightOf_0 : List UInt8 := dkwX4_weightOf_0 ++ dktX4_weightOf_1
theorem dksX4_weightOf_0 : cX4_weightOf.data.toList.drop 0 = dktX4_weightOf_0 := by decide +kernel
theorem dksX4_weightOf_1 : cX4_weightOf.data.toList.drop 23 = dktX4_weightOf_1 := dk_seg dksX4_weightOf_0 23 rfl rfl
theorem dX4_weightOf_0 : decode cX4_weightOf 0 = .ok (.aload_n 0, 1) := dk_42 (dk_at dksX4_weightOf_0 0 rfl rfl)
theorem dX4_weightOf_1 : decode cX4_weightOf 1 = .ok (.iconst 0, 1) := dk_3 (dk_at dksX4_weightOf_0 1 rfl rfl)
theorem dX4_weightOf_2 : decode cX4_weightOf 2 = .ok (.putfield 48, 3) := dk_181 0 48 (dk_at dksX4_weightOf_0 2 rfl rfl)
theorem dX4_weightOf_5 : decode cX4_weightOf 5 = .ok (.aload_n 0, 1) := dk_42 (dk_at dksX4_weightOf_0 5 rfl rfl)
theorem dX4_weightOf_6 : decode cX4_weightOf 6 = .ok (.iload_n 1, 1) := dk_27 (dk_at dksX4_weightOf_0 6 rfl rfl)
theorem dX4_weightOf_7 : decode cX4_weightOf 7 = .ok (.invokevirtual 84, 3) := dk_182 0 84 (dk_at dksX4_weightOf_0 7 rfl rfl)
theorem dX4_weightOf_10 : decode cX4_weightOf 10 = .ok (.ifCond .eq 11, 3) := dk_153 0 11 (dk_at dksX4_weightOf_0 10 rfl rfl)
theorem dX4_weightOf_13 : decode cX4_weightOf 13 = .ok (.aload_n 0, 1) := dk_42 (dk_at dksX4_weightOf_0 13 rfl rfl)
theorem dX4_weightOf_14 : decode cX4_weightOf 14 = .ok (.iload_n 1, 1) := dk_27 (dk_at dksX4_weightOf_0 14 rfl rfl)
theorem dX4_weightOf_15 : decode cX4_weightOf 15 = .ok (.invokevirtual 117, 3) := dk_182 0 117 (dk_at dksX4_weightOf_0 15 rfl rfl)
theorem dX4_weightOf_18 : decode cX4_weightOf 18 = .ok (.goto 8, 3) := dk_167 0 8 (dk_at dksX4_weightOf_0 18 rfl rfl)
theorem dX4_weightOf_21 : decode cX4_weightOf 21 = .ok (.aload_n 0, 1) := dk_42 (dk_at dksX4_weightOf_0 21 rfl rfl)
theorem dX4_weightOf_22 : decode cX4_weightOf 22 = .ok (.iconst 1, 1) := dk_4 (dk_at dksX4_weightOf_0 22 rfl rfl)
theorem dX4_weightOf_23 : decode cX4_weightOf 23 = .ok (.invokevirtual 88, 3) := dk_182 0 88 (dk_at dksX4_weightOf_1 0 rfl rfl)
theorem dX4_weightOf_26 : decode cX4_weightOf 26 = .ok (.ireturn, 1) := dk_172 (dk_at dksX4_weightOf_1 3 rfl rfl)
def dkwX4_draughtOf_1 : List UInt8 := [182, 0, 117, 182, 0, 120, 61, 28, 2, 160, 0, 11, 42, 5, 182, 0, 88, 167, 0, 4, 28, 172]
abbrev dktX4_draughtOf_1 : List UInt8 := dkwX4_draughtOf_1 ++ []
def dkwX4_draughtOf_0 : List UInt8 := [42, 3, 181, 0, 48, 42, 27, 182, 0, 84, 154, 0, 9, 42, 4, 182, 0, 88, 172, 42, 27, 42, 27]
abbrev dktX4_draughtOf_0 : List UInt8 := dkwX4_draughtOf_0 ++ dktX4_draughtOf_1
theorem dksX4_draughtOf_0 : cX4_draughtOf.data.toList.drop 0 = dktX4_draughtOf_0 := by decide +kernel
theorem dksX4_draughtOf_1 : cX4_draughtOf.data.toList.drop 23 = dktX4_draughtOf_1 := dk_seg dksX4_draughtOf_0 23 rfl rfl
theorem dX4_draughtOf_0 : decode cX4_draughtOf 0 = .ok (.aload_n 0, 1) := dk_42 (dk_at dksX4_draughtOf_0 0 rfl rfl)
theorem dX4_draughtOf_1 : decode cX4_draughtOf 1 = .ok (.iconst 0, 1) := dk_3 (dk_at dksX4_draughtOf_0 1 rfl rfl)
theorem dX4_draughtOf_2 : decode cX4_draughtOf 2 = .ok (.putfield 48, 3) := dk_181 0 48 (dk_at dksX4_draughtOf_0 2 rfl rfl)
theorem dX4_draughtOf_5 : decode cX4_draughtOf 5 = .ok (.aload_n 0, 1) := dk_42 (dk_at dksX4_draughtOf_0 5 rfl rfl)
theorem dX4_draughtOf_6 : decode cX4_draughtOf 6 = .ok (.iload_n 1, 1) := dk_27 (dk_at dksX4_draughtOf_0 6 rfl rfl)
theorem dX4_draughtOf_7 : decode cX4_draughtOf 7 = .ok (.invokevirtual 84, 3) := dk_182 0 84 (dk_at dksX4_draughtOf_0 7 rfl rfl)
theorem dX4_draughtOf_10 : decode cX4_draughtOf 10 = .ok (.ifCond .ne 9, 3) := dk_154 0 9 (dk_at dksX4_draughtOf_0 10 rfl rfl)
theorem dX4_draughtOf_13 : decode cX4_draughtOf 13 = .ok (.aload_n 0, 1) := dk_42 (dk_at dksX4_draughtOf_0 13 rfl rfl)
theorem dX4_draughtOf_14 : decode cX4_draughtOf 14 = .ok (.iconst 1, 1) := dk_4 (dk_at dksX4_draughtOf_0 14 rfl rfl)
theorem dX4_draughtOf_15 : decode cX4_draughtOf 15 = .ok (.invokevirtual 88, 3) := dk_182 0 88 (dk_at dksX4_draughtOf_0 15 rfl rfl)
theorem dX4_draughtOf_18 : decode cX4_draughtOf 18 = .ok (.ireturn, 1) := dk_172 (dk_at dksX4_draughtOf_0 18 rfl rfl)
theorem dX4_draughtOf_19 : decode cX4_draughtOf 19 = .ok (.aload_n 0, 1) := dk_42 (dk_at dksX4_draughtOf_0 19 rfl rfl)
theorem dX4_draughtOf_20 : decode cX4_draughtOf 20 = .ok (.iload_n 1, 1) := dk_27 (dk_at dksX4_draughtOf_0 20 rfl rfl)
theorem dX4_draughtOf_21 : decode cX4_draughtOf 21 = .ok (.aload_n 0, 1) := dk_42 (dk_at dksX4_draughtOf_0 21 rfl rfl)
theorem dX4_draughtOf_22 : decode cX4_draughtOf 22 = .ok (.iload_n 1, 1) := dk_27 (dk_at dksX4_draughtOf_0 22 rfl rfl)
theorem dX4_draughtOf_23 : decode cX4_draughtOf 23 = .ok (.invokevirtual 117, 3) := dk_182 0 117 (dk_at dksX4_draughtOf_1 0 rfl rfl)
theorem dX4_draughtOf_26 : decode cX4_draughtOf 26 = .ok (.invokevirtual 120, 3) := dk_182 0 120 (dk_at dksX4_draughtOf_1 3 rfl rfl)
theorem dX4_draughtOf_29 : decode cX4_draughtOf 29 = .ok (.istore_n 2, 1) := dk_61 (dk_at dksX4_draughtOf_1 6 rfl rfl)
theorem dX4_draughtOf_30 : decode cX4_draughtOf 30 = .ok (.iload_n 2, 1) := dk_28 (dk_at dksX4_draughtOf_1 7 rfl rfl)
theorem dX4_draughtOf_31 : decode cX4_draughtOf 31 = .ok (.iconst (-1), 1) := dk_2 (dk_at dksX4_draughtOf_1 8 rfl rfl)
theorem dX4_draughtOf_32 : decode cX4_draughtOf 32 = .ok (.if_icmp .ne 11, 3) := dk_160 0 11 (dk_at dksX4_draughtOf_1 9 rfl rfl)
theorem dX4_draughtOf_35 : decode cX4_draughtOf 35 = .ok (.aload_n 0, 1) := dk_42 (dk_at dksX4_draughtOf_1 12 rfl rfl)
theorem dX4_draughtOf_36 : decode cX4_draughtOf 36 = .ok (.iconst 2, 1) := dk_5 (dk_at dksX4_draughtOf_1 13 rfl rfl)
theorem dX4_draughtOf_37 : decode cX4_draughtOf 37 = .ok (.invokevirtual 88, 3) := dk_182 0 88 (dk_at dksX4_draughtOf_1 14 rfl rfl)
theorem dX4_draughtOf_40 : decode cX4_draughtOf 40 = .ok (.goto 4, 3) := dk_167 0 4 (dk_at dksX4_draughtOf_1 17 rfl rfl)
theorem dX4_draughtOf_43 : decode cX4_draughtOf 43 = .ok (.iload_n 2, 1) := dk_28 (dk_at dksX4_draughtOf_1 20 rfl rfl)
theorem dX4_draughtOf_44 : decode cX4_draughtOf 44 = .ok (.ireturn, 1) := dk_172 (dk_at dksX4_draughtOf_1 21 rfl rfl)
def dkwX4_draughtByHalving_0 : List UInt8 := [42, 27, 182, 0, 178, 172]
abbrev dktX4_draughtByHalving_0 : List UInt8 := dkwX4_draughtByHalving_0 ++ []
theorem dksX4_draughtByHalving_0 : cX4_draughtByHalving.data.toList.drop 0 = dktX4_draughtByHalving_0 := by decide +kernel
theorem dX4_draughtByHalving_0 : decode cX4_draughtByHalving 0 = .ok (.aload_n 0, 1) := dk_42 (dk_at dksX4_draughtByHalving_0 0 rfl rfl)
theorem dX4_draughtByHalving_1 : decode cX4_draughtByHalving 1 = .ok (.iload_n 1, 1) := dk_27 (dk_at dksX4_draughtByHalving_0 1 rfl rfl)
theorem dX4_draughtByHalving_2 : decode cX4_draughtByHalving 2 = .ok (.invokevirtual 178, 3) := dk_182 0 178 (dk_at dksX4_draughtByHalving_0 2 rfl rfl)
theorem dX4_draughtByHalving_5 : decode cX4_draughtByHalving 5 = .ok (.ireturn, 1) := dk_172 (dk_at dksX4_draughtByHalving_0 5 rfl rfl)
def dkwX4_heelOf_2 : List UInt8 := [96, 61, 132, 3, 1, 167, 255, 226, 28, 172]
abbrev dktX4_heelOf_2 : List UInt8 := dkwX4_heelOf_2 ++ []
def dkwX4_heelOf_1 : List UInt8 := [42, 27, 182, 0, 62, 162, 0, 27, 28, 42, 27, 29, 3, 182, 0, 71, 42, 27, 29, 4, 182, 0, 71, 100]
abbrev dktX4_heelOf_1 : List UInt8 := dkwX4_heelOf_1 ++ dktX4_heelOf_2
def dkwX4_heelOf_0 : List UInt8 := [42, 3, 181, 0, 48, 42, 27, 182, 0, 84, 154, 0, 9, 42, 4, 182, 0, 88, 172, 3, 61, 3, 62, 29]
abbrev dktX4_heelOf_0 : List UInt8 := dkwX4_heelOf_0 ++ dktX4_heelOf_1
theorem dksX4_heelOf_0 : cX4_heelOf.data.toList.drop 0 = dktX4_heelOf_0 := by decide +kernel
theorem dksX4_heelOf_1 : cX4_heelOf.data.toList.drop 24 = dktX4_heelOf_1 := dk_seg dksX4_heelOf_0 24 rfl rfl
theorem dksX4_heelOf_2 : cX4_heelOf.data.toList.drop 48 = dktX4_heelOf_2 := dk_seg dksX4_heelOf_1 24 rfl rfl
theorem dX4_heelOf_0 : decode cX4_heelOf 0 = .ok (.aload_n 0, 1) := dk_42 (dk_at dksX4_heelOf_0 0 rfl rfl)
theorem dX4_heelOf_1 : decode cX4_heelOf 1 = .ok (.iconst 0, 1) := dk_3 (dk_at dksX4_heelOf_0 1 rfl rfl)
theorem dX4_heelOf_2 : decode cX4_heelOf 2 = .ok (.putfield 48, 3) := dk_181 0 48 (dk_at dksX4_heelOf_0 2 rfl rfl)
theorem dX4_heelOf_5 : decode cX4_heelOf 5 = .ok (.aload_n 0, 1) := dk_42 (dk_at dksX4_heelOf_0 5 rfl rfl)
theorem dX4_heelOf_6 : decode cX4_heelOf 6 = .ok (.iload_n 1, 1) := dk_27 (dk_at dksX4_heelOf_0 6 rfl rfl)
theorem dX4_heelOf_7 : decode cX4_heelOf 7 = .ok (.invokevirtual 84, 3) := dk_182 0 84 (dk_at dksX4_heelOf_0 7 rfl rfl)
theorem dX4_heelOf_10 : decode cX4_heelOf 10 = .ok (.ifCond .ne 9, 3) := dk_154 0 9 (dk_at dksX4_heelOf_0 10 rfl rfl)
theorem dX4_heelOf_13 : decode cX4_heelOf 13 = .ok (.aload_n 0, 1) := dk_42 (dk_at dksX4_heelOf_0 13 rfl rfl)
theorem dX4_heelOf_14 : decode cX4_heelOf 14 = .ok (.iconst 1, 1) := dk_4 (dk_at dksX4_heelOf_0 14 rfl rfl)
theorem dX4_heelOf_15 : decode cX4_heelOf 15 = .ok (.invokevirtual 88, 3) := dk_182 0 88 (dk_at dksX4_heelOf_0 15 rfl rfl)
theorem dX4_heelOf_18 : decode cX4_heelOf 18 = .ok (.ireturn, 1) := dk_172 (dk_at dksX4_heelOf_0 18 rfl rfl)
theorem dX4_heelOf_19 : decode cX4_heelOf 19 = .ok (.iconst 0, 1) := dk_3 (dk_at dksX4_heelOf_0 19 rfl rfl)
theorem dX4_heelOf_20 : decode cX4_heelOf 20 = .ok (.istore_n 2, 1) := dk_61 (dk_at dksX4_heelOf_0 20 rfl rfl)
theorem dX4_heelOf_21 : decode cX4_heelOf 21 = .ok (.iconst 0, 1) := dk_3 (dk_at dksX4_heelOf_0 21 rfl rfl)
theorem dX4_heelOf_22 : decode cX4_heelOf 22 = .ok (.istore_n 3, 1) := dk_62 (dk_at dksX4_heelOf_0 22 rfl rfl)
theorem dX4_heelOf_23 : decode cX4_heelOf 23 = .ok (.iload_n 3, 1) := dk_29 (dk_at dksX4_heelOf_0 23 rfl rfl)
theorem dX4_heelOf_24 : decode cX4_heelOf 24 = .ok (.aload_n 0, 1) := dk_42 (dk_at dksX4_heelOf_1 0 rfl rfl)
theorem dX4_heelOf_25 : decode cX4_heelOf 25 = .ok (.iload_n 1, 1) := dk_27 (dk_at dksX4_heelOf_1 1 rfl rfl)
theorem dX4_heelOf_26 : decode cX4_heelOf 26 = .ok (.invokevirtual 62, 3) := dk_182 0 62 (dk_at dksX4_heelOf_1 2 rfl rfl)
theorem dX4_heelOf_29 : decode cX4_heelOf 29 = .ok (.if_icmp .ge 27, 3) := dk_162 0 27 (dk_at dksX4_heelOf_1 5 rfl rfl)
theorem dX4_heelOf_32 : decode cX4_heelOf 32 = .ok (.iload_n 2, 1) := dk_28 (dk_at dksX4_heelOf_1 8 rfl rfl)
theorem dX4_heelOf_33 : decode cX4_heelOf 33 = .ok (.aload_n 0, 1) := dk_42 (dk_at dksX4_heelOf_1 9 rfl rfl)
theorem dX4_heelOf_34 : decode cX4_heelOf 34 = .ok (.iload_n 1, 1) := dk_27 (dk_at dksX4_heelOf_1 10 rfl rfl)
theorem dX4_heelOf_35 : decode cX4_heelOf 35 = .ok (.iload_n 3, 1) := dk_29 (dk_at dksX4_heelOf_1 11 rfl rfl)
theorem dX4_heelOf_36 : decode cX4_heelOf 36 = .ok (.iconst 0, 1) := dk_3 (dk_at dksX4_heelOf_1 12 rfl rfl)
theorem dX4_heelOf_37 : decode cX4_heelOf 37 = .ok (.invokevirtual 71, 3) := dk_182 0 71 (dk_at dksX4_heelOf_1 13 rfl rfl)
theorem dX4_heelOf_40 : decode cX4_heelOf 40 = .ok (.aload_n 0, 1) := dk_42 (dk_at dksX4_heelOf_1 16 rfl rfl)
theorem dX4_heelOf_41 : decode cX4_heelOf 41 = .ok (.iload_n 1, 1) := dk_27 (dk_at dksX4_heelOf_1 17 rfl rfl)
theorem dX4_heelOf_42 : decode cX4_heelOf 42 = .ok (.iload_n 3, 1) := dk_29 (dk_at dksX4_heelOf_1 18 rfl rfl)
theorem dX4_heelOf_43 : decode cX4_heelOf 43 = .ok (.iconst 1, 1) := dk_4 (dk_at dksX4_heelOf_1 19 rfl rfl)
theorem dX4_heelOf_44 : decode cX4_heelOf 44 = .ok (.invokevirtual 71, 3) := dk_182 0 71 (dk_at dksX4_heelOf_1 20 rfl rfl)
theorem dX4_heelOf_47 : decode cX4_heelOf 47 = .ok (.isub, 1) := dk_100 (dk_at dksX4_heelOf_1 23 rfl rfl)
theorem dX4_heelOf_48 : decode cX4_heelOf 48 = .ok (.iadd, 1) := dk_96 (dk_at dksX4_heelOf_2 0 rfl rfl)
theorem dX4_heelOf_49 : decode cX4_heelOf 49 = .ok (.istore_n 2, 1) := dk_61 (dk_at dksX4_heelOf_2 1 rfl rfl)
theorem dX4_heelOf_50 : decode cX4_heelOf 50 = .ok (.iinc 3 1, 3) := dk_132 3 1 (dk_at dksX4_heelOf_2 2 rfl rfl)
theorem dX4_heelOf_53 : decode cX4_heelOf 53 = .ok (.goto (-30), 3) := dk_167 255 226 (dk_at dksX4_heelOf_2 5 rfl rfl)
theorem dX4_heelOf_56 : decode cX4_heelOf 56 = .ok (.iload_n 2, 1) := dk_28 (dk_at dksX4_heelOf_2 8 rfl rfl)
theorem dX4_heelOf_57 : decode cX4_heelOf 57 = .ok (.ireturn, 1) := dk_172 (dk_at dksX4_heelOf_2 9 rfl rfl)
def dkwX4_hullAtRank_4 : List UInt8 := [172]
abbrev dktX4_hullAtRank_4 : List UInt8 := dkwX4_hullAtRank_4 ++ []
def dkwX4_hullAtRank_3 : List UInt8 := [132, 4, 1, 167, 255, 204, 29, 27, 160, 0, 5, 28, 172, 132, 2, 1, 167, 255, 176, 42, 4, 182, 0, 88]
abbrev dktX4_hullAtRank_3 : List UInt8 := dkwX4_hullAtRank_3 ++ dktX4_hullAtRank_4
def dkwX4_hullAtRank_2 : List UInt8 := [21, 5, 157, 0, 14, 21, 5, 154, 0, 13, 21, 4, 28, 162, 0, 7, 4, 167, 0, 4, 3, 96, 62]
abbrev dktX4_hullAtRank_2 : List UInt8 := dkwX4_hullAtRank_2 ++ dktX4_hullAtRank_3
def dkwX4_hullAtRank_1 : List UInt8 := [42, 180, 0, 9, 3, 46, 162, 0, 47, 42, 28, 182, 0, 117, 42, 21, 4, 182, 0, 117, 100, 54, 5, 29]
abbrev dktX4_hullAtRank_1 : List UInt8 := dkwX4_hullAtRank_1 ++ dktX4_hullAtRank_2
def dkwX4_hullAtRank_0 : List UInt8 := [42, 3, 181, 0, 48, 3, 61, 28, 42, 180, 0, 9, 3, 46, 162, 0, 76, 3, 62, 3, 54, 4, 21, 4]
abbrev dktX4_hullAtRank_0 : List UInt8 := dkwX4_hullAtRank_0 ++ dktX4_hullAtRank_1
theorem dksX4_hullAtRank_0 : cX4_hullAtRank.data.toList.drop 0 = dktX4_hullAtRank_0 := by decide +kernel
theorem dksX4_hullAtRank_1 : cX4_hullAtRank.data.toList.drop 24 = dktX4_hullAtRank_1 := dk_seg dksX4_hullAtRank_0 24 rfl rfl
theorem dksX4_hullAtRank_2 : cX4_hullAtRank.data.toList.drop 48 = dktX4_hullAtRank_2 := dk_seg dksX4_hullAtRank_1 24 rfl rfl
theorem dksX4_hullAtRank_3 : cX4_hullAtRank.data.toList.drop 71 = dktX4_hullAtRank_3 := dk_seg dksX4_hullAtRank_2 23 rfl rfl
theorem dksX4_hullAtRank_4 : cX4_hullAtRank.data.toList.drop 95 = dktX4_hullAtRank_4 := dk_seg dksX4_hullAtRank_3 24 rfl rfl
theorem dX4_hullAtRank_0 : decode cX4_hullAtRank 0 = .ok (.aload_n 0, 1) := dk_42 (dk_at dksX4_hullAtRank_0 0 rfl rfl)
theorem dX4_hullAtRank_1 : decode cX4_hullAtRank 1 = .ok (.iconst 0, 1) := dk_3 (dk_at dksX4_hullAtRank_0 1 rfl rfl)
theorem dX4_hullAtRank_2 : decode cX4_hullAtRank 2 = .ok (.putfield 48, 3) := dk_181 0 48 (dk_at dksX4_hullAtRank_0 2 rfl rfl)
theorem dX4_hullAtRank_5 : decode cX4_hullAtRank 5 = .ok (.iconst 0, 1) := dk_3 (dk_at dksX4_hullAtRank_0 5 rfl rfl)
theorem dX4_hullAtRank_6 : decode cX4_hullAtRank 6 = .ok (.istore_n 2, 1) := dk_61 (dk_at dksX4_hullAtRank_0 6 rfl rfl)
theorem dX4_hullAtRank_7 : decode cX4_hullAtRank 7 = .ok (.iload_n 2, 1) := dk_28 (dk_at dksX4_hullAtRank_0 7 rfl rfl)
theorem dX4_hullAtRank_8 : decode cX4_hullAtRank 8 = .ok (.aload_n 0, 1) := dk_42 (dk_at dksX4_hullAtRank_0 8 rfl rfl)
theorem dX4_hullAtRank_9 : decode cX4_hullAtRank 9 = .ok (.getfield 9, 3) := dk_180 0 9 (dk_at dksX4_hullAtRank_0 9 rfl rfl)
theorem dX4_hullAtRank_12 : decode cX4_hullAtRank 12 = .ok (.iconst 0, 1) := dk_3 (dk_at dksX4_hullAtRank_0 12 rfl rfl)
theorem dX4_hullAtRank_13 : decode cX4_hullAtRank 13 = .ok (.iaload, 1) := dk_46 (dk_at dksX4_hullAtRank_0 13 rfl rfl)
theorem dX4_hullAtRank_14 : decode cX4_hullAtRank 14 = .ok (.if_icmp .ge 76, 3) := dk_162 0 76 (dk_at dksX4_hullAtRank_0 14 rfl rfl)
theorem dX4_hullAtRank_17 : decode cX4_hullAtRank 17 = .ok (.iconst 0, 1) := dk_3 (dk_at dksX4_hullAtRank_0 17 rfl rfl)
theorem dX4_hullAtRank_18 : decode cX4_hullAtRank 18 = .ok (.istore_n 3, 1) := dk_62 (dk_at dksX4_hullAtRank_0 18 rfl rfl)
theorem dX4_hullAtRank_19 : decode cX4_hullAtRank 19 = .ok (.iconst 0, 1) := dk_3 (dk_at dksX4_hullAtRank_0 19 rfl rfl)
theorem dX4_hullAtRank_20 : decode cX4_hullAtRank 20 = .ok (.istore 4, 2) := dk_54 4 (dk_at dksX4_hullAtRank_0 20 rfl rfl)
theorem dX4_hullAtRank_22 : decode cX4_hullAtRank 22 = .ok (.iload 4, 2) := dk_21 4 (dk_at dksX4_hullAtRank_0 22 rfl rfl)
theorem dX4_hullAtRank_24 : decode cX4_hullAtRank 24 = .ok (.aload_n 0, 1) := dk_42 (dk_at dksX4_hullAtRank_1 0 rfl rfl)
theorem dX4_hullAtRank_25 : decode cX4_hullAtRank 25 = .ok (.getfield 9, 3) := dk_180 0 9 (dk_at dksX4_hullAtRank_1 1 rfl rfl)
theorem dX4_hullAtRank_28 : decode cX4_hullAtRank 28 = .ok (.iconst 0, 1) := dk_3 (dk_at dksX4_hullAtRank_1 4 rfl rfl)
theorem dX4_hullAtRank_29 : decode cX4_hullAtRank 29 = .ok (.iaload, 1) := dk_46 (dk_at dksX4_hullAtRank_1 5 rfl rfl)
theorem dX4_hullAtRank_30 : decode cX4_hullAtRank 30 = .ok (.if_icmp .ge 47, 3) := dk_162 0 47 (dk_at dksX4_hullAtRank_1 6 rfl rfl)
theorem dX4_hullAtRank_33 : decode cX4_hullAtRank 33 = .ok (.aload_n 0, 1) := dk_42 (dk_at dksX4_hullAtRank_1 9 rfl rfl)
theorem dX4_hullAtRank_34 : decode cX4_hullAtRank 34 = .ok (.iload_n 2, 1) := dk_28 (dk_at dksX4_hullAtRank_1 10 rfl rfl)
theorem dX4_hullAtRank_35 : decode cX4_hullAtRank 35 = .ok (.invokevirtual 117, 3) := dk_182 0 117 (dk_at dksX4_hullAtRank_1 11 rfl rfl)
theorem dX4_hullAtRank_38 : decode cX4_hullAtRank 38 = .ok (.aload_n 0, 1) := dk_42 (dk_at dksX4_hullAtRank_1 14 rfl rfl)
theorem dX4_hullAtRank_39 : decode cX4_hullAtRank 39 = .ok (.iload 4, 2) := dk_21 4 (dk_at dksX4_hullAtRank_1 15 rfl rfl)
theorem dX4_hullAtRank_41 : decode cX4_hullAtRank 41 = .ok (.invokevirtual 117, 3) := dk_182 0 117 (dk_at dksX4_hullAtRank_1 17 rfl rfl)
theorem dX4_hullAtRank_44 : decode cX4_hullAtRank 44 = .ok (.isub, 1) := dk_100 (dk_at dksX4_hullAtRank_1 20 rfl rfl)
theorem dX4_hullAtRank_45 : decode cX4_hullAtRank 45 = .ok (.istore 5, 2) := dk_54 5 (dk_at dksX4_hullAtRank_1 21 rfl rfl)
theorem dX4_hullAtRank_47 : decode cX4_hullAtRank 47 = .ok (.iload_n 3, 1) := dk_29 (dk_at dksX4_hullAtRank_1 23 rfl rfl)
theorem dX4_hullAtRank_48 : decode cX4_hullAtRank 48 = .ok (.iload 5, 2) := dk_21 5 (dk_at dksX4_hullAtRank_2 0 rfl rfl)
theorem dX4_hullAtRank_50 : decode cX4_hullAtRank 50 = .ok (.ifCond .gt 14, 3) := dk_157 0 14 (dk_at dksX4_hullAtRank_2 2 rfl rfl)
theorem dX4_hullAtRank_53 : decode cX4_hullAtRank 53 = .ok (.iload 5, 2) := dk_21 5 (dk_at dksX4_hullAtRank_2 5 rfl rfl)
theorem dX4_hullAtRank_55 : decode cX4_hullAtRank 55 = .ok (.ifCond .ne 13, 3) := dk_154 0 13 (dk_at dksX4_hullAtRank_2 7 rfl rfl)
theorem dX4_hullAtRank_58 : decode cX4_hullAtRank 58 = .ok (.iload 4, 2) := dk_21 4 (dk_at dksX4_hullAtRank_2 10 rfl rfl)
theorem dX4_hullAtRank_60 : decode cX4_hullAtRank 60 = .ok (.iload_n 2, 1) := dk_28 (dk_at dksX4_hullAtRank_2 12 rfl rfl)
theorem dX4_hullAtRank_61 : decode cX4_hullAtRank 61 = .ok (.if_icmp .ge 7, 3) := dk_162 0 7 (dk_at dksX4_hullAtRank_2 13 rfl rfl)
theorem dX4_hullAtRank_64 : decode cX4_hullAtRank 64 = .ok (.iconst 1, 1) := dk_4 (dk_at dksX4_hullAtRank_2 16 rfl rfl)
theorem dX4_hullAtRank_65 : decode cX4_hullAtRank 65 = .ok (.goto 4, 3) := dk_167 0 4 (dk_at dksX4_hullAtRank_2 17 rfl rfl)
theorem dX4_hullAtRank_68 : decode cX4_hullAtRank 68 = .ok (.iconst 0, 1) := dk_3 (dk_at dksX4_hullAtRank_2 20 rfl rfl)
theorem dX4_hullAtRank_69 : decode cX4_hullAtRank 69 = .ok (.iadd, 1) := dk_96 (dk_at dksX4_hullAtRank_2 21 rfl rfl)
theorem dX4_hullAtRank_70 : decode cX4_hullAtRank 70 = .ok (.istore_n 3, 1) := dk_62 (dk_at dksX4_hullAtRank_2 22 rfl rfl)
theorem dX4_hullAtRank_71 : decode cX4_hullAtRank 71 = .ok (.iinc 4 1, 3) := dk_132 4 1 (dk_at dksX4_hullAtRank_3 0 rfl rfl)
theorem dX4_hullAtRank_74 : decode cX4_hullAtRank 74 = .ok (.goto (-52), 3) := dk_167 255 204 (dk_at dksX4_hullAtRank_3 3 rfl rfl)
theorem dX4_hullAtRank_77 : decode cX4_hullAtRank 77 = .ok (.iload_n 3, 1) := dk_29 (dk_at dksX4_hullAtRank_3 6 rfl rfl)
theorem dX4_hullAtRank_78 : decode cX4_hullAtRank 78 = .ok (.iload_n 1, 1) := dk_27 (dk_at dksX4_hullAtRank_3 7 rfl rfl)
theorem dX4_hullAtRank_79 : decode cX4_hullAtRank 79 = .ok (.if_icmp .ne 5, 3) := dk_160 0 5 (dk_at dksX4_hullAtRank_3 8 rfl rfl)
theorem dX4_hullAtRank_82 : decode cX4_hullAtRank 82 = .ok (.iload_n 2, 1) := dk_28 (dk_at dksX4_hullAtRank_3 11 rfl rfl)
theorem dX4_hullAtRank_83 : decode cX4_hullAtRank 83 = .ok (.ireturn, 1) := dk_172 (dk_at dksX4_hullAtRank_3 12 rfl rfl)
theorem dX4_hullAtRank_84 : decode cX4_hullAtRank 84 = .ok (.iinc 2 1, 3) := dk_132 2 1 (dk_at dksX4_hullAtRank_3 13 rfl rfl)
theorem dX4_hullAtRank_87 : decode cX4_hullAtRank 87 = .ok (.goto (-80), 3) := dk_167 255 176 (dk_at dksX4_hullAtRank_3 16 rfl rfl)
theorem dX4_hullAtRank_90 : decode cX4_hullAtRank 90 = .ok (.aload_n 0, 1) := dk_42 (dk_at dksX4_hullAtRank_3 19 rfl rfl)
theorem dX4_hullAtRank_91 : decode cX4_hullAtRank 91 = .ok (.iconst 1, 1) := dk_4 (dk_at dksX4_hullAtRank_3 20 rfl rfl)
theorem dX4_hullAtRank_92 : decode cX4_hullAtRank 92 = .ok (.invokevirtual 88, 3) := dk_182 0 88 (dk_at dksX4_hullAtRank_3 21 rfl rfl)
theorem dX4_hullAtRank_95 : decode cX4_hullAtRank 95 = .ok (.ireturn, 1) := dk_172 (dk_at dksX4_hullAtRank_4 0 rfl rfl)
def dkwX4_isSymmetric_0 : List UInt8 := [42, 27, 27, 182, 0, 185, 172]
abbrev dktX4_isSymmetric_0 : List UInt8 := dkwX4_isSymmetric_0 ++ []
theorem dksX4_isSymmetric_0 : cX4_isSymmetric.data.toList.drop 0 = dktX4_isSymmetric_0 := by decide +kernel
theorem dX4_isSymmetric_0 : decode cX4_isSymmetric 0 = .ok (.aload_n 0, 1) := dk_42 (dk_at dksX4_isSymmetric_0 0 rfl rfl)
theorem dX4_isSymmetric_1 : decode cX4_isSymmetric 1 = .ok (.iload_n 1, 1) := dk_27 (dk_at dksX4_isSymmetric_0 1 rfl rfl)
theorem dX4_isSymmetric_2 : decode cX4_isSymmetric 2 = .ok (.iload_n 1, 1) := dk_27 (dk_at dksX4_isSymmetric_0 2 rfl rfl)
theorem dX4_isSymmetric_3 : decode cX4_isSymmetric 3 = .ok (.invokevirtual 185, 3) := dk_182 0 185 (dk_at dksX4_isSymmetric_0 3 rfl rfl)
theorem dX4_isSymmetric_6 : decode cX4_isSymmetric 6 = .ok (.ireturn, 1) := dk_172 (dk_at dksX4_isSymmetric_0 6 rfl rfl)
def dkwX4_isReflectionOf_1 : List UInt8 := [182, 0, 88, 87, 3, 172, 42, 27, 28, 182, 0, 188, 172]
abbrev dktX4_isReflectionOf_1 : List UInt8 := dkwX4_isReflectionOf_1 ++ []
def dkwX4_isReflectionOf_0 : List UInt8 := [42, 3, 181, 0, 48, 42, 27, 182, 0, 84, 153, 0, 11, 42, 28, 182, 0, 84, 154, 0, 11, 42, 4]
abbrev dktX4_isReflectionOf_0 : List UInt8 := dkwX4_isReflectionOf_0 ++ dktX4_isReflectionOf_1
theorem dksX4_isReflectionOf_0 : cX4_isReflectionOf.data.toList.drop 0 = dktX4_isReflectionOf_0 := by decide +kernel
theorem dksX4_isReflectionOf_1 : cX4_isReflectionOf.data.toList.drop 23 = dktX4_isReflectionOf_1 := dk_seg dksX4_isReflectionOf_0 23 rfl rfl
theorem dX4_isReflectionOf_0 : decode cX4_isReflectionOf 0 = .ok (.aload_n 0, 1) := dk_42 (dk_at dksX4_isReflectionOf_0 0 rfl rfl)
theorem dX4_isReflectionOf_1 : decode cX4_isReflectionOf 1 = .ok (.iconst 0, 1) := dk_3 (dk_at dksX4_isReflectionOf_0 1 rfl rfl)
theorem dX4_isReflectionOf_2 : decode cX4_isReflectionOf 2 = .ok (.putfield 48, 3) := dk_181 0 48 (dk_at dksX4_isReflectionOf_0 2 rfl rfl)
theorem dX4_isReflectionOf_5 : decode cX4_isReflectionOf 5 = .ok (.aload_n 0, 1) := dk_42 (dk_at dksX4_isReflectionOf_0 5 rfl rfl)
theorem dX4_isReflectionOf_6 : decode cX4_isReflectionOf 6 = .ok (.iload_n 1, 1) := dk_27 (dk_at dksX4_isReflectionOf_0 6 rfl rfl)
theorem dX4_isReflectionOf_7 : decode cX4_isReflectionOf 7 = .ok (.invokevirtual 84, 3) := dk_182 0 84 (dk_at dksX4_isReflectionOf_0 7 rfl rfl)
theorem dX4_isReflectionOf_10 : decode cX4_isReflectionOf 10 = .ok (.ifCond .eq 11, 3) := dk_153 0 11 (dk_at dksX4_isReflectionOf_0 10 rfl rfl)
theorem dX4_isReflectionOf_13 : decode cX4_isReflectionOf 13 = .ok (.aload_n 0, 1) := dk_42 (dk_at dksX4_isReflectionOf_0 13 rfl rfl)
theorem dX4_isReflectionOf_14 : decode cX4_isReflectionOf 14 = .ok (.iload_n 2, 1) := dk_28 (dk_at dksX4_isReflectionOf_0 14 rfl rfl)
theorem dX4_isReflectionOf_15 : decode cX4_isReflectionOf 15 = .ok (.invokevirtual 84, 3) := dk_182 0 84 (dk_at dksX4_isReflectionOf_0 15 rfl rfl)
theorem dX4_isReflectionOf_18 : decode cX4_isReflectionOf 18 = .ok (.ifCond .ne 11, 3) := dk_154 0 11 (dk_at dksX4_isReflectionOf_0 18 rfl rfl)
theorem dX4_isReflectionOf_21 : decode cX4_isReflectionOf 21 = .ok (.aload_n 0, 1) := dk_42 (dk_at dksX4_isReflectionOf_0 21 rfl rfl)
theorem dX4_isReflectionOf_22 : decode cX4_isReflectionOf 22 = .ok (.iconst 1, 1) := dk_4 (dk_at dksX4_isReflectionOf_0 22 rfl rfl)
theorem dX4_isReflectionOf_23 : decode cX4_isReflectionOf 23 = .ok (.invokevirtual 88, 3) := dk_182 0 88 (dk_at dksX4_isReflectionOf_1 0 rfl rfl)
theorem dX4_isReflectionOf_26 : decode cX4_isReflectionOf 26 = .ok (.pop, 1) := dk_87 (dk_at dksX4_isReflectionOf_1 3 rfl rfl)
theorem dX4_isReflectionOf_27 : decode cX4_isReflectionOf 27 = .ok (.iconst 0, 1) := dk_3 (dk_at dksX4_isReflectionOf_1 4 rfl rfl)
theorem dX4_isReflectionOf_28 : decode cX4_isReflectionOf 28 = .ok (.ireturn, 1) := dk_172 (dk_at dksX4_isReflectionOf_1 5 rfl rfl)
theorem dX4_isReflectionOf_29 : decode cX4_isReflectionOf 29 = .ok (.aload_n 0, 1) := dk_42 (dk_at dksX4_isReflectionOf_1 6 rfl rfl)
theorem dX4_isReflectionOf_30 : decode cX4_isReflectionOf 30 = .ok (.iload_n 1, 1) := dk_27 (dk_at dksX4_isReflectionOf_1 7 rfl rfl)
theorem dX4_isReflectionOf_31 : decode cX4_isReflectionOf 31 = .ok (.iload_n 2, 1) := dk_28 (dk_at dksX4_isReflectionOf_1 8 rfl rfl)
theorem dX4_isReflectionOf_32 : decode cX4_isReflectionOf 32 = .ok (.invokevirtual 188, 3) := dk_182 0 188 (dk_at dksX4_isReflectionOf_1 9 rfl rfl)
theorem dX4_isReflectionOf_35 : decode cX4_isReflectionOf 35 = .ok (.ireturn, 1) := dk_172 (dk_at dksX4_isReflectionOf_1 12 rfl rfl)
def dkwX4_isReflection_2 : List UInt8 := [132, 4, 1, 167, 255, 228, 29, 172]
abbrev dktX4_isReflection_2 : List UInt8 := dkwX4_isReflection_2 ++ []
def dkwX4_isReflection_1 : List UInt8 := [42, 27, 182, 0, 62, 162, 0, 24, 29, 153, 0, 20, 42, 27, 21, 4, 28, 21, 4, 182, 0, 181, 62]
abbrev dktX4_isReflection_1 : List UInt8 := dkwX4_isReflection_1 ++ dktX4_isReflection_2
def dkwX4_isReflection_0 : List UInt8 := [42, 27, 182, 0, 62, 42, 28, 182, 0, 62, 160, 0, 7, 4, 167, 0, 4, 3, 62, 3, 54, 4, 21, 4]
abbrev dktX4_isReflection_0 : List UInt8 := dkwX4_isReflection_0 ++ dktX4_isReflection_1
theorem dksX4_isReflection_0 : cX4_isReflection.data.toList.drop 0 = dktX4_isReflection_0 := by decide +kernel
theorem dksX4_isReflection_1 : cX4_isReflection.data.toList.drop 24 = dktX4_isReflection_1 := dk_seg dksX4_isReflection_0 24 rfl rfl
theorem dksX4_isReflection_2 : cX4_isReflection.data.toList.drop 47 = dktX4_isReflection_2 := dk_seg dksX4_isReflection_1 23 rfl rfl
theorem dX4_isReflection_0 : decode cX4_isReflection 0 = .ok (.aload_n 0, 1) := dk_42 (dk_at dksX4_isReflection_0 0 rfl rfl)
theorem dX4_isReflection_1 : decode cX4_isReflection 1 = .ok (.iload_n 1, 1) := dk_27 (dk_at dksX4_isReflection_0 1 rfl rfl)
theorem dX4_isReflection_2 : decode cX4_isReflection 2 = .ok (.invokevirtual 62, 3) := dk_182 0 62 (dk_at dksX4_isReflection_0 2 rfl rfl)
theorem dX4_isReflection_5 : decode cX4_isReflection 5 = .ok (.aload_n 0, 1) := dk_42 (dk_at dksX4_isReflection_0 5 rfl rfl)
theorem dX4_isReflection_6 : decode cX4_isReflection 6 = .ok (.iload_n 2, 1) := dk_28 (dk_at dksX4_isReflection_0 6 rfl rfl)
theorem dX4_isReflection_7 : decode cX4_isReflection 7 = .ok (.invokevirtual 62, 3) := dk_182 0 62 (dk_at dksX4_isReflection_0 7 rfl rfl)
theorem dX4_isReflection_10 : decode cX4_isReflection 10 = .ok (.if_icmp .ne 7, 3) := dk_160 0 7 (dk_at dksX4_isReflection_0 10 rfl rfl)
theorem dX4_isReflection_13 : decode cX4_isReflection 13 = .ok (.iconst 1, 1) := dk_4 (dk_at dksX4_isReflection_0 13 rfl rfl)
theorem dX4_isReflection_14 : decode cX4_isReflection 14 = .ok (.goto 4, 3) := dk_167 0 4 (dk_at dksX4_isReflection_0 14 rfl rfl)
theorem dX4_isReflection_17 : decode cX4_isReflection 17 = .ok (.iconst 0, 1) := dk_3 (dk_at dksX4_isReflection_0 17 rfl rfl)
theorem dX4_isReflection_18 : decode cX4_isReflection 18 = .ok (.istore_n 3, 1) := dk_62 (dk_at dksX4_isReflection_0 18 rfl rfl)
theorem dX4_isReflection_19 : decode cX4_isReflection 19 = .ok (.iconst 0, 1) := dk_3 (dk_at dksX4_isReflection_0 19 rfl rfl)
theorem dX4_isReflection_20 : decode cX4_isReflection 20 = .ok (.istore 4, 2) := dk_54 4 (dk_at dksX4_isReflection_0 20 rfl rfl)
theorem dX4_isReflection_22 : decode cX4_isReflection 22 = .ok (.iload 4, 2) := dk_21 4 (dk_at dksX4_isReflection_0 22 rfl rfl)
theorem dX4_isReflection_24 : decode cX4_isReflection 24 = .ok (.aload_n 0, 1) := dk_42 (dk_at dksX4_isReflection_1 0 rfl rfl)
theorem dX4_isReflection_25 : decode cX4_isReflection 25 = .ok (.iload_n 1, 1) := dk_27 (dk_at dksX4_isReflection_1 1 rfl rfl)
theorem dX4_isReflection_26 : decode cX4_isReflection 26 = .ok (.invokevirtual 62, 3) := dk_182 0 62 (dk_at dksX4_isReflection_1 2 rfl rfl)
theorem dX4_isReflection_29 : decode cX4_isReflection 29 = .ok (.if_icmp .ge 24, 3) := dk_162 0 24 (dk_at dksX4_isReflection_1 5 rfl rfl)
theorem dX4_isReflection_32 : decode cX4_isReflection 32 = .ok (.iload_n 3, 1) := dk_29 (dk_at dksX4_isReflection_1 8 rfl rfl)
theorem dX4_isReflection_33 : decode cX4_isReflection 33 = .ok (.ifCond .eq 20, 3) := dk_153 0 20 (dk_at dksX4_isReflection_1 9 rfl rfl)
theorem dX4_isReflection_36 : decode cX4_isReflection 36 = .ok (.aload_n 0, 1) := dk_42 (dk_at dksX4_isReflection_1 12 rfl rfl)
theorem dX4_isReflection_37 : decode cX4_isReflection 37 = .ok (.iload_n 1, 1) := dk_27 (dk_at dksX4_isReflection_1 13 rfl rfl)
theorem dX4_isReflection_38 : decode cX4_isReflection 38 = .ok (.iload 4, 2) := dk_21 4 (dk_at dksX4_isReflection_1 14 rfl rfl)
theorem dX4_isReflection_40 : decode cX4_isReflection 40 = .ok (.iload_n 2, 1) := dk_28 (dk_at dksX4_isReflection_1 16 rfl rfl)
theorem dX4_isReflection_41 : decode cX4_isReflection 41 = .ok (.iload 4, 2) := dk_21 4 (dk_at dksX4_isReflection_1 17 rfl rfl)
theorem dX4_isReflection_43 : decode cX4_isReflection 43 = .ok (.invokevirtual 181, 3) := dk_182 0 181 (dk_at dksX4_isReflection_1 19 rfl rfl)
theorem dX4_isReflection_46 : decode cX4_isReflection 46 = .ok (.istore_n 3, 1) := dk_62 (dk_at dksX4_isReflection_1 22 rfl rfl)
theorem dX4_isReflection_47 : decode cX4_isReflection 47 = .ok (.iinc 4 1, 3) := dk_132 4 1 (dk_at dksX4_isReflection_2 0 rfl rfl)
theorem dX4_isReflection_50 : decode cX4_isReflection 50 = .ok (.goto (-28), 3) := dk_167 255 228 (dk_at dksX4_isReflection_2 3 rfl rfl)
theorem dX4_isReflection_53 : decode cX4_isReflection 53 = .ok (.iload_n 3, 1) := dk_29 (dk_at dksX4_isReflection_2 6 rfl rfl)
theorem dX4_isReflection_54 : decode cX4_isReflection 54 = .ok (.ireturn, 1) := dk_172 (dk_at dksX4_isReflection_2 7 rfl rfl)
def dkwX4_isMirrored_1 : List UInt8 := [182, 0, 71, 42, 29, 21, 4, 3, 182, 0, 71, 160, 0, 7, 4, 167, 0, 4, 3, 172]
abbrev dktX4_isMirrored_1 : List UInt8 := dkwX4_isMirrored_1 ++ []
def dkwX4_isMirrored_0 : List UInt8 := [42, 27, 28, 3, 182, 0, 71, 42, 29, 21, 4, 4, 182, 0, 71, 160, 0, 25, 42, 27, 28, 4]
abbrev dktX4_isMirrored_0 : List UInt8 := dkwX4_isMirrored_0 ++ dktX4_isMirrored_1
theorem dksX4_isMirrored_0 : cX4_isMirrored.data.toList.drop 0 = dktX4_isMirrored_0 := by decide +kernel
theorem dksX4_isMirrored_1 : cX4_isMirrored.data.toList.drop 22 = dktX4_isMirrored_1 := dk_seg dksX4_isMirrored_0 22 rfl rfl
theorem dX4_isMirrored_0 : decode cX4_isMirrored 0 = .ok (.aload_n 0, 1) := dk_42 (dk_at dksX4_isMirrored_0 0 rfl rfl)
theorem dX4_isMirrored_1 : decode cX4_isMirrored 1 = .ok (.iload_n 1, 1) := dk_27 (dk_at dksX4_isMirrored_0 1 rfl rfl)
theorem dX4_isMirrored_2 : decode cX4_isMirrored 2 = .ok (.iload_n 2, 1) := dk_28 (dk_at dksX4_isMirrored_0 2 rfl rfl)
theorem dX4_isMirrored_3 : decode cX4_isMirrored 3 = .ok (.iconst 0, 1) := dk_3 (dk_at dksX4_isMirrored_0 3 rfl rfl)
theorem dX4_isMirrored_4 : decode cX4_isMirrored 4 = .ok (.invokevirtual 71, 3) := dk_182 0 71 (dk_at dksX4_isMirrored_0 4 rfl rfl)
theorem dX4_isMirrored_7 : decode cX4_isMirrored 7 = .ok (.aload_n 0, 1) := dk_42 (dk_at dksX4_isMirrored_0 7 rfl rfl)
theorem dX4_isMirrored_8 : decode cX4_isMirrored 8 = .ok (.iload_n 3, 1) := dk_29 (dk_at dksX4_isMirrored_0 8 rfl rfl)
theorem dX4_isMirrored_9 : decode cX4_isMirrored 9 = .ok (.iload 4, 2) := dk_21 4 (dk_at dksX4_isMirrored_0 9 rfl rfl)
theorem dX4_isMirrored_11 : decode cX4_isMirrored 11 = .ok (.iconst 1, 1) := dk_4 (dk_at dksX4_isMirrored_0 11 rfl rfl)
theorem dX4_isMirrored_12 : decode cX4_isMirrored 12 = .ok (.invokevirtual 71, 3) := dk_182 0 71 (dk_at dksX4_isMirrored_0 12 rfl rfl)
theorem dX4_isMirrored_15 : decode cX4_isMirrored 15 = .ok (.if_icmp .ne 25, 3) := dk_160 0 25 (dk_at dksX4_isMirrored_0 15 rfl rfl)
theorem dX4_isMirrored_18 : decode cX4_isMirrored 18 = .ok (.aload_n 0, 1) := dk_42 (dk_at dksX4_isMirrored_0 18 rfl rfl)
theorem dX4_isMirrored_19 : decode cX4_isMirrored 19 = .ok (.iload_n 1, 1) := dk_27 (dk_at dksX4_isMirrored_0 19 rfl rfl)
theorem dX4_isMirrored_20 : decode cX4_isMirrored 20 = .ok (.iload_n 2, 1) := dk_28 (dk_at dksX4_isMirrored_0 20 rfl rfl)
theorem dX4_isMirrored_21 : decode cX4_isMirrored 21 = .ok (.iconst 1, 1) := dk_4 (dk_at dksX4_isMirrored_0 21 rfl rfl)
theorem dX4_isMirrored_22 : decode cX4_isMirrored 22 = .ok (.invokevirtual 71, 3) := dk_182 0 71 (dk_at dksX4_isMirrored_1 0 rfl rfl)
theorem dX4_isMirrored_25 : decode cX4_isMirrored 25 = .ok (.aload_n 0, 1) := dk_42 (dk_at dksX4_isMirrored_1 3 rfl rfl)
theorem dX4_isMirrored_26 : decode cX4_isMirrored 26 = .ok (.iload_n 3, 1) := dk_29 (dk_at dksX4_isMirrored_1 4 rfl rfl)
theorem dX4_isMirrored_27 : decode cX4_isMirrored 27 = .ok (.iload 4, 2) := dk_21 4 (dk_at dksX4_isMirrored_1 5 rfl rfl)
theorem dX4_isMirrored_29 : decode cX4_isMirrored 29 = .ok (.iconst 0, 1) := dk_3 (dk_at dksX4_isMirrored_1 7 rfl rfl)
theorem dX4_isMirrored_30 : decode cX4_isMirrored 30 = .ok (.invokevirtual 71, 3) := dk_182 0 71 (dk_at dksX4_isMirrored_1 8 rfl rfl)
theorem dX4_isMirrored_33 : decode cX4_isMirrored 33 = .ok (.if_icmp .ne 7, 3) := dk_160 0 7 (dk_at dksX4_isMirrored_1 11 rfl rfl)
theorem dX4_isMirrored_36 : decode cX4_isMirrored 36 = .ok (.iconst 1, 1) := dk_4 (dk_at dksX4_isMirrored_1 14 rfl rfl)
theorem dX4_isMirrored_37 : decode cX4_isMirrored 37 = .ok (.goto 4, 3) := dk_167 0 4 (dk_at dksX4_isMirrored_1 15 rfl rfl)
theorem dX4_isMirrored_40 : decode cX4_isMirrored 40 = .ok (.iconst 0, 1) := dk_3 (dk_at dksX4_isMirrored_1 18 rfl rfl)
theorem dX4_isMirrored_41 : decode cX4_isMirrored 41 = .ok (.ireturn, 1) := dk_172 (dk_at dksX4_isMirrored_1 19 rfl rfl)
def dkwX4_commonStretch_5 : List UInt8 := [132, 5, 1, 167, 255, 182, 132, 4, 1, 167, 255, 163, 29, 172]
abbrev dktX4_commonStretch_5 : List UInt8 := dkwX4_commonStretch_5 ++ []
def dkwX4_commonStretch_4 : List UInt8 := [21, 6, 96, 182, 0, 181, 153, 0, 9, 132, 6, 1, 167, 255, 208, 29, 21, 6, 184, 0, 65, 62]
abbrev dktX4_commonStretch_4 : List UInt8 := dkwX4_commonStretch_4 ++ dktX4_commonStretch_5
def dkwX4_commonStretch_3 : List UInt8 := [21, 5, 21, 6, 96, 42, 28, 182, 0, 62, 162, 0, 28, 42, 27, 21, 4, 21, 6, 96, 28, 21, 5]
abbrev dktX4_commonStretch_3 : List UInt8 := dkwX4_commonStretch_3 ++ dktX4_commonStretch_4
def dkwX4_commonStretch_2 : List UInt8 := [42, 28, 182, 0, 62, 162, 0, 70, 3, 54, 6, 21, 4, 21, 6, 96, 42, 27, 182, 0, 62, 162, 0, 41]
abbrev dktX4_commonStretch_2 : List UInt8 := dkwX4_commonStretch_2 ++ dktX4_commonStretch_3
def dkwX4_commonStretch_1 : List UInt8 := [182, 0, 88, 172, 3, 62, 3, 54, 4, 21, 4, 42, 27, 182, 0, 62, 162, 0, 89, 3, 54, 5, 21, 5]
abbrev dktX4_commonStretch_1 : List UInt8 := dkwX4_commonStretch_1 ++ dktX4_commonStretch_2
def dkwX4_commonStretch_0 : List UInt8 := [42, 3, 181, 0, 48, 42, 27, 182, 0, 84, 153, 0, 11, 42, 28, 182, 0, 84, 154, 0, 9, 42, 4]
abbrev dktX4_commonStretch_0 : List UInt8 := dkwX4_commonStretch_0 ++ dktX4_commonStretch_1
theorem dksX4_commonStretch_0 : cX4_commonStretch.data.toList.drop 0 = dktX4_commonStretch_0 := by decide +kernel
theorem dksX4_commonStretch_1 : cX4_commonStretch.data.toList.drop 23 = dktX4_commonStretch_1 := dk_seg dksX4_commonStretch_0 23 rfl rfl
theorem dksX4_commonStretch_2 : cX4_commonStretch.data.toList.drop 47 = dktX4_commonStretch_2 := dk_seg dksX4_commonStretch_1 24 rfl rfl
theorem dksX4_commonStretch_3 : cX4_commonStretch.data.toList.drop 71 = dktX4_commonStretch_3 := dk_seg dksX4_commonStretch_2 24 rfl rfl
theorem dksX4_commonStretch_4 : cX4_commonStretch.data.toList.drop 94 = dktX4_commonStretch_4 := dk_seg dksX4_commonStretch_3 23 rfl rfl
theorem dksX4_commonStretch_5 : cX4_commonStretch.data.toList.drop 116 = dktX4_commonStretch_5 := dk_seg dksX4_commonStretch_4 22 rfl rfl
theorem dX4_commonStretch_0 : decode cX4_commonStretch 0 = .ok (.aload_n 0, 1) := dk_42 (dk_at dksX4_commonStretch_0 0 rfl rfl)
theorem dX4_commonStretch_1 : decode cX4_commonStretch 1 = .ok (.iconst 0, 1) := dk_3 (dk_at dksX4_commonStretch_0 1 rfl rfl)
theorem dX4_commonStretch_2 : decode cX4_commonStretch 2 = .ok (.putfield 48, 3) := dk_181 0 48 (dk_at dksX4_commonStretch_0 2 rfl rfl)
theorem dX4_commonStretch_5 : decode cX4_commonStretch 5 = .ok (.aload_n 0, 1) := dk_42 (dk_at dksX4_commonStretch_0 5 rfl rfl)
theorem dX4_commonStretch_6 : decode cX4_commonStretch 6 = .ok (.iload_n 1, 1) := dk_27 (dk_at dksX4_commonStretch_0 6 rfl rfl)
theorem dX4_commonStretch_7 : decode cX4_commonStretch 7 = .ok (.invokevirtual 84, 3) := dk_182 0 84 (dk_at dksX4_commonStretch_0 7 rfl rfl)
theorem dX4_commonStretch_10 : decode cX4_commonStretch 10 = .ok (.ifCond .eq 11, 3) := dk_153 0 11 (dk_at dksX4_commonStretch_0 10 rfl rfl)
theorem dX4_commonStretch_13 : decode cX4_commonStretch 13 = .ok (.aload_n 0, 1) := dk_42 (dk_at dksX4_commonStretch_0 13 rfl rfl)
theorem dX4_commonStretch_14 : decode cX4_commonStretch 14 = .ok (.iload_n 2, 1) := dk_28 (dk_at dksX4_commonStretch_0 14 rfl rfl)
theorem dX4_commonStretch_15 : decode cX4_commonStretch 15 = .ok (.invokevirtual 84, 3) := dk_182 0 84 (dk_at dksX4_commonStretch_0 15 rfl rfl)
theorem dX4_commonStretch_18 : decode cX4_commonStretch 18 = .ok (.ifCond .ne 9, 3) := dk_154 0 9 (dk_at dksX4_commonStretch_0 18 rfl rfl)
theorem dX4_commonStretch_21 : decode cX4_commonStretch 21 = .ok (.aload_n 0, 1) := dk_42 (dk_at dksX4_commonStretch_0 21 rfl rfl)
theorem dX4_commonStretch_22 : decode cX4_commonStretch 22 = .ok (.iconst 1, 1) := dk_4 (dk_at dksX4_commonStretch_0 22 rfl rfl)
theorem dX4_commonStretch_23 : decode cX4_commonStretch 23 = .ok (.invokevirtual 88, 3) := dk_182 0 88 (dk_at dksX4_commonStretch_1 0 rfl rfl)
theorem dX4_commonStretch_26 : decode cX4_commonStretch 26 = .ok (.ireturn, 1) := dk_172 (dk_at dksX4_commonStretch_1 3 rfl rfl)
theorem dX4_commonStretch_27 : decode cX4_commonStretch 27 = .ok (.iconst 0, 1) := dk_3 (dk_at dksX4_commonStretch_1 4 rfl rfl)
theorem dX4_commonStretch_28 : decode cX4_commonStretch 28 = .ok (.istore_n 3, 1) := dk_62 (dk_at dksX4_commonStretch_1 5 rfl rfl)
theorem dX4_commonStretch_29 : decode cX4_commonStretch 29 = .ok (.iconst 0, 1) := dk_3 (dk_at dksX4_commonStretch_1 6 rfl rfl)
theorem dX4_commonStretch_30 : decode cX4_commonStretch 30 = .ok (.istore 4, 2) := dk_54 4 (dk_at dksX4_commonStretch_1 7 rfl rfl)
theorem dX4_commonStretch_32 : decode cX4_commonStretch 32 = .ok (.iload 4, 2) := dk_21 4 (dk_at dksX4_commonStretch_1 9 rfl rfl)
theorem dX4_commonStretch_34 : decode cX4_commonStretch 34 = .ok (.aload_n 0, 1) := dk_42 (dk_at dksX4_commonStretch_1 11 rfl rfl)
theorem dX4_commonStretch_35 : decode cX4_commonStretch 35 = .ok (.iload_n 1, 1) := dk_27 (dk_at dksX4_commonStretch_1 12 rfl rfl)
theorem dX4_commonStretch_36 : decode cX4_commonStretch 36 = .ok (.invokevirtual 62, 3) := dk_182 0 62 (dk_at dksX4_commonStretch_1 13 rfl rfl)
theorem dX4_commonStretch_39 : decode cX4_commonStretch 39 = .ok (.if_icmp .ge 89, 3) := dk_162 0 89 (dk_at dksX4_commonStretch_1 16 rfl rfl)
theorem dX4_commonStretch_42 : decode cX4_commonStretch 42 = .ok (.iconst 0, 1) := dk_3 (dk_at dksX4_commonStretch_1 19 rfl rfl)
theorem dX4_commonStretch_43 : decode cX4_commonStretch 43 = .ok (.istore 5, 2) := dk_54 5 (dk_at dksX4_commonStretch_1 20 rfl rfl)
theorem dX4_commonStretch_45 : decode cX4_commonStretch 45 = .ok (.iload 5, 2) := dk_21 5 (dk_at dksX4_commonStretch_1 22 rfl rfl)
theorem dX4_commonStretch_47 : decode cX4_commonStretch 47 = .ok (.aload_n 0, 1) := dk_42 (dk_at dksX4_commonStretch_2 0 rfl rfl)
theorem dX4_commonStretch_48 : decode cX4_commonStretch 48 = .ok (.iload_n 2, 1) := dk_28 (dk_at dksX4_commonStretch_2 1 rfl rfl)
theorem dX4_commonStretch_49 : decode cX4_commonStretch 49 = .ok (.invokevirtual 62, 3) := dk_182 0 62 (dk_at dksX4_commonStretch_2 2 rfl rfl)
theorem dX4_commonStretch_52 : decode cX4_commonStretch 52 = .ok (.if_icmp .ge 70, 3) := dk_162 0 70 (dk_at dksX4_commonStretch_2 5 rfl rfl)
theorem dX4_commonStretch_55 : decode cX4_commonStretch 55 = .ok (.iconst 0, 1) := dk_3 (dk_at dksX4_commonStretch_2 8 rfl rfl)
theorem dX4_commonStretch_56 : decode cX4_commonStretch 56 = .ok (.istore 6, 2) := dk_54 6 (dk_at dksX4_commonStretch_2 9 rfl rfl)
theorem dX4_commonStretch_58 : decode cX4_commonStretch 58 = .ok (.iload 4, 2) := dk_21 4 (dk_at dksX4_commonStretch_2 11 rfl rfl)
theorem dX4_commonStretch_60 : decode cX4_commonStretch 60 = .ok (.iload 6, 2) := dk_21 6 (dk_at dksX4_commonStretch_2 13 rfl rfl)
theorem dX4_commonStretch_62 : decode cX4_commonStretch 62 = .ok (.iadd, 1) := dk_96 (dk_at dksX4_commonStretch_2 15 rfl rfl)
theorem dX4_commonStretch_63 : decode cX4_commonStretch 63 = .ok (.aload_n 0, 1) := dk_42 (dk_at dksX4_commonStretch_2 16 rfl rfl)
theorem dX4_commonStretch_64 : decode cX4_commonStretch 64 = .ok (.iload_n 1, 1) := dk_27 (dk_at dksX4_commonStretch_2 17 rfl rfl)
theorem dX4_commonStretch_65 : decode cX4_commonStretch 65 = .ok (.invokevirtual 62, 3) := dk_182 0 62 (dk_at dksX4_commonStretch_2 18 rfl rfl)
theorem dX4_commonStretch_68 : decode cX4_commonStretch 68 = .ok (.if_icmp .ge 41, 3) := dk_162 0 41 (dk_at dksX4_commonStretch_2 21 rfl rfl)
theorem dX4_commonStretch_71 : decode cX4_commonStretch 71 = .ok (.iload 5, 2) := dk_21 5 (dk_at dksX4_commonStretch_3 0 rfl rfl)
theorem dX4_commonStretch_73 : decode cX4_commonStretch 73 = .ok (.iload 6, 2) := dk_21 6 (dk_at dksX4_commonStretch_3 2 rfl rfl)
theorem dX4_commonStretch_75 : decode cX4_commonStretch 75 = .ok (.iadd, 1) := dk_96 (dk_at dksX4_commonStretch_3 4 rfl rfl)
theorem dX4_commonStretch_76 : decode cX4_commonStretch 76 = .ok (.aload_n 0, 1) := dk_42 (dk_at dksX4_commonStretch_3 5 rfl rfl)
theorem dX4_commonStretch_77 : decode cX4_commonStretch 77 = .ok (.iload_n 2, 1) := dk_28 (dk_at dksX4_commonStretch_3 6 rfl rfl)
theorem dX4_commonStretch_78 : decode cX4_commonStretch 78 = .ok (.invokevirtual 62, 3) := dk_182 0 62 (dk_at dksX4_commonStretch_3 7 rfl rfl)
theorem dX4_commonStretch_81 : decode cX4_commonStretch 81 = .ok (.if_icmp .ge 28, 3) := dk_162 0 28 (dk_at dksX4_commonStretch_3 10 rfl rfl)
theorem dX4_commonStretch_84 : decode cX4_commonStretch 84 = .ok (.aload_n 0, 1) := dk_42 (dk_at dksX4_commonStretch_3 13 rfl rfl)
theorem dX4_commonStretch_85 : decode cX4_commonStretch 85 = .ok (.iload_n 1, 1) := dk_27 (dk_at dksX4_commonStretch_3 14 rfl rfl)
theorem dX4_commonStretch_86 : decode cX4_commonStretch 86 = .ok (.iload 4, 2) := dk_21 4 (dk_at dksX4_commonStretch_3 15 rfl rfl)
theorem dX4_commonStretch_88 : decode cX4_commonStretch 88 = .ok (.iload 6, 2) := dk_21 6 (dk_at dksX4_commonStretch_3 17 rfl rfl)
theorem dX4_commonStretch_90 : decode cX4_commonStretch 90 = .ok (.iadd, 1) := dk_96 (dk_at dksX4_commonStretch_3 19 rfl rfl)
theorem dX4_commonStretch_91 : decode cX4_commonStretch 91 = .ok (.iload_n 2, 1) := dk_28 (dk_at dksX4_commonStretch_3 20 rfl rfl)
theorem dX4_commonStretch_92 : decode cX4_commonStretch 92 = .ok (.iload 5, 2) := dk_21 5 (dk_at dksX4_commonStretch_3 21 rfl rfl)
theorem dX4_commonStretch_94 : decode cX4_commonStretch 94 = .ok (.iload 6, 2) := dk_21 6 (dk_at dksX4_commonStretch_4 0 rfl rfl)
theorem dX4_commonStretch_96 : decode cX4_commonStretch 96 = .ok (.iadd, 1) := dk_96 (dk_at dksX4_commonStretch_4 2 rfl rfl)
theorem dX4_commonStretch_97 : decode cX4_commonStretch 97 = .ok (.invokevirtual 181, 3) := dk_182 0 181 (dk_at dksX4_commonStretch_4 3 rfl rfl)
theorem dX4_commonStretch_100 : decode cX4_commonStretch 100 = .ok (.ifCond .eq 9, 3) := dk_153 0 9 (dk_at dksX4_commonStretch_4 6 rfl rfl)
theorem dX4_commonStretch_103 : decode cX4_commonStretch 103 = .ok (.iinc 6 1, 3) := dk_132 6 1 (dk_at dksX4_commonStretch_4 9 rfl rfl)
theorem dX4_commonStretch_106 : decode cX4_commonStretch 106 = .ok (.goto (-48), 3) := dk_167 255 208 (dk_at dksX4_commonStretch_4 12 rfl rfl)
theorem dX4_commonStretch_109 : decode cX4_commonStretch 109 = .ok (.iload_n 3, 1) := dk_29 (dk_at dksX4_commonStretch_4 15 rfl rfl)
theorem dX4_commonStretch_110 : decode cX4_commonStretch 110 = .ok (.iload 6, 2) := dk_21 6 (dk_at dksX4_commonStretch_4 16 rfl rfl)
theorem dX4_commonStretch_112 : decode cX4_commonStretch 112 = .ok (.invokestatic 65, 3) := dk_184 0 65 (dk_at dksX4_commonStretch_4 18 rfl rfl)
theorem dX4_commonStretch_115 : decode cX4_commonStretch 115 = .ok (.istore_n 3, 1) := dk_62 (dk_at dksX4_commonStretch_4 21 rfl rfl)
theorem dX4_commonStretch_116 : decode cX4_commonStretch 116 = .ok (.iinc 5 1, 3) := dk_132 5 1 (dk_at dksX4_commonStretch_5 0 rfl rfl)
theorem dX4_commonStretch_119 : decode cX4_commonStretch 119 = .ok (.goto (-74), 3) := dk_167 255 182 (dk_at dksX4_commonStretch_5 3 rfl rfl)
theorem dX4_commonStretch_122 : decode cX4_commonStretch 122 = .ok (.iinc 4 1, 3) := dk_132 4 1 (dk_at dksX4_commonStretch_5 6 rfl rfl)
theorem dX4_commonStretch_125 : decode cX4_commonStretch 125 = .ok (.goto (-93), 3) := dk_167 255 163 (dk_at dksX4_commonStretch_5 9 rfl rfl)
theorem dX4_commonStretch_128 : decode cX4_commonStretch 128 = .ok (.iload_n 3, 1) := dk_29 (dk_at dksX4_commonStretch_5 12 rfl rfl)
theorem dX4_commonStretch_129 : decode cX4_commonStretch 129 = .ok (.ireturn, 1) := dk_172 (dk_at dksX4_commonStretch_5 13 rfl rfl)
def dkwX4_commonStretchByTrying_0 : List UInt8 := [42, 27, 28, 182, 0, 191, 172]
abbrev dktX4_commonStretchByTrying_0 : List UInt8 := dkwX4_commonStretchByTrying_0 ++ []
theorem dksX4_commonStretchByTrying_0 : cX4_commonStretchByTrying.data.toList.drop 0 = dktX4_commonStretchByTrying_0 := by decide +kernel
theorem dX4_commonStretchByTrying_0 : decode cX4_commonStretchByTrying 0 = .ok (.aload_n 0, 1) := dk_42 (dk_at dksX4_commonStretchByTrying_0 0 rfl rfl)
theorem dX4_commonStretchByTrying_1 : decode cX4_commonStretchByTrying 1 = .ok (.iload_n 1, 1) := dk_27 (dk_at dksX4_commonStretchByTrying_0 1 rfl rfl)
theorem dX4_commonStretchByTrying_2 : decode cX4_commonStretchByTrying 2 = .ok (.iload_n 2, 1) := dk_28 (dk_at dksX4_commonStretchByTrying_0 2 rfl rfl)
theorem dX4_commonStretchByTrying_3 : decode cX4_commonStretchByTrying 3 = .ok (.invokevirtual 191, 3) := dk_182 0 191 (dk_at dksX4_commonStretchByTrying_0 3 rfl rfl)
theorem dX4_commonStretchByTrying_6 : decode cX4_commonStretchByTrying 6 = .ok (.ireturn, 1) := dk_172 (dk_at dksX4_commonStretchByTrying_0 6 rfl rfl)
def dkwX4_hour_0 : List UInt8 := [42, 3, 181, 0, 48, 42, 180, 0, 9, 4, 46, 172]
abbrev dktX4_hour_0 : List UInt8 := dkwX4_hour_0 ++ []
theorem dksX4_hour_0 : cX4_hour.data.toList.drop 0 = dktX4_hour_0 := by decide +kernel
theorem dX4_hour_0 : decode cX4_hour 0 = .ok (.aload_n 0, 1) := dk_42 (dk_at dksX4_hour_0 0 rfl rfl)
theorem dX4_hour_1 : decode cX4_hour 1 = .ok (.iconst 0, 1) := dk_3 (dk_at dksX4_hour_0 1 rfl rfl)
theorem dX4_hour_2 : decode cX4_hour 2 = .ok (.putfield 48, 3) := dk_181 0 48 (dk_at dksX4_hour_0 2 rfl rfl)
theorem dX4_hour_5 : decode cX4_hour 5 = .ok (.aload_n 0, 1) := dk_42 (dk_at dksX4_hour_0 5 rfl rfl)
theorem dX4_hour_6 : decode cX4_hour 6 = .ok (.getfield 9, 3) := dk_180 0 9 (dk_at dksX4_hour_0 6 rfl rfl)
theorem dX4_hour_9 : decode cX4_hour 9 = .ok (.iconst 1, 1) := dk_4 (dk_at dksX4_hour_0 9 rfl rfl)
theorem dX4_hour_10 : decode cX4_hour 10 = .ok (.iaload, 1) := dk_46 (dk_at dksX4_hour_0 10 rfl rfl)
theorem dX4_hour_11 : decode cX4_hour 11 = .ok (.ireturn, 1) := dk_172 (dk_at dksX4_hour_0 11 rfl rfl)
def dkwX4_tideAfter_1 : List UInt8 := [27, 96, 182, 0, 123, 167, 0, 8, 42, 4, 182, 0, 88, 172]
abbrev dktX4_tideAfter_1 : List UInt8 := dkwX4_tideAfter_1 ++ []
def dkwX4_tideAfter_0 : List UInt8 := [42, 3, 181, 0, 48, 27, 133, 9, 20, 0, 109, 184, 0, 54, 153, 0, 18, 42, 42, 180, 0, 9, 4, 46]
abbrev dktX4_tideAfter_0 : List UInt8 := dkwX4_tideAfter_0 ++ dktX4_tideAfter_1
theorem dksX4_tideAfter_0 : cX4_tideAfter.data.toList.drop 0 = dktX4_tideAfter_0 := by decide +kernel
theorem dksX4_tideAfter_1 : cX4_tideAfter.data.toList.drop 24 = dktX4_tideAfter_1 := dk_seg dksX4_tideAfter_0 24 rfl rfl
theorem dX4_tideAfter_0 : decode cX4_tideAfter 0 = .ok (.aload_n 0, 1) := dk_42 (dk_at dksX4_tideAfter_0 0 rfl rfl)
theorem dX4_tideAfter_1 : decode cX4_tideAfter 1 = .ok (.iconst 0, 1) := dk_3 (dk_at dksX4_tideAfter_0 1 rfl rfl)
theorem dX4_tideAfter_2 : decode cX4_tideAfter 2 = .ok (.putfield 48, 3) := dk_181 0 48 (dk_at dksX4_tideAfter_0 2 rfl rfl)
theorem dX4_tideAfter_5 : decode cX4_tideAfter 5 = .ok (.iload_n 1, 1) := dk_27 (dk_at dksX4_tideAfter_0 5 rfl rfl)
theorem dX4_tideAfter_6 : decode cX4_tideAfter 6 = .ok (.i2l, 1) := dk_133 (dk_at dksX4_tideAfter_0 6 rfl rfl)
theorem dX4_tideAfter_7 : decode cX4_tideAfter 7 = .ok (.lconst 0, 1) := dk_9 (dk_at dksX4_tideAfter_0 7 rfl rfl)
theorem dX4_tideAfter_8 : decode cX4_tideAfter 8 = .ok (.ldc2_w 109, 3) := dk_20 0 109 (dk_at dksX4_tideAfter_0 8 rfl rfl)
theorem dX4_tideAfter_11 : decode cX4_tideAfter 11 = .ok (.invokestatic 54, 3) := dk_184 0 54 (dk_at dksX4_tideAfter_0 11 rfl rfl)
theorem dX4_tideAfter_14 : decode cX4_tideAfter 14 = .ok (.ifCond .eq 18, 3) := dk_153 0 18 (dk_at dksX4_tideAfter_0 14 rfl rfl)
theorem dX4_tideAfter_17 : decode cX4_tideAfter 17 = .ok (.aload_n 0, 1) := dk_42 (dk_at dksX4_tideAfter_0 17 rfl rfl)
theorem dX4_tideAfter_18 : decode cX4_tideAfter 18 = .ok (.aload_n 0, 1) := dk_42 (dk_at dksX4_tideAfter_0 18 rfl rfl)
theorem dX4_tideAfter_19 : decode cX4_tideAfter 19 = .ok (.getfield 9, 3) := dk_180 0 9 (dk_at dksX4_tideAfter_0 19 rfl rfl)
theorem dX4_tideAfter_22 : decode cX4_tideAfter 22 = .ok (.iconst 1, 1) := dk_4 (dk_at dksX4_tideAfter_0 22 rfl rfl)
theorem dX4_tideAfter_23 : decode cX4_tideAfter 23 = .ok (.iaload, 1) := dk_46 (dk_at dksX4_tideAfter_0 23 rfl rfl)
theorem dX4_tideAfter_24 : decode cX4_tideAfter 24 = .ok (.iload_n 1, 1) := dk_27 (dk_at dksX4_tideAfter_1 0 rfl rfl)
theorem dX4_tideAfter_25 : decode cX4_tideAfter 25 = .ok (.iadd, 1) := dk_96 (dk_at dksX4_tideAfter_1 1 rfl rfl)
theorem dX4_tideAfter_26 : decode cX4_tideAfter 26 = .ok (.invokevirtual 123, 3) := dk_182 0 123 (dk_at dksX4_tideAfter_1 2 rfl rfl)
theorem dX4_tideAfter_29 : decode cX4_tideAfter 29 = .ok (.goto 8, 3) := dk_167 0 8 (dk_at dksX4_tideAfter_1 5 rfl rfl)
theorem dX4_tideAfter_32 : decode cX4_tideAfter 32 = .ok (.aload_n 0, 1) := dk_42 (dk_at dksX4_tideAfter_1 8 rfl rfl)
theorem dX4_tideAfter_33 : decode cX4_tideAfter 33 = .ok (.iconst 1, 1) := dk_4 (dk_at dksX4_tideAfter_1 9 rfl rfl)
theorem dX4_tideAfter_34 : decode cX4_tideAfter 34 = .ok (.invokevirtual 88, 3) := dk_182 0 88 (dk_at dksX4_tideAfter_1 10 rfl rfl)
theorem dX4_tideAfter_37 : decode cX4_tideAfter 37 = .ok (.ireturn, 1) := dk_172 (dk_at dksX4_tideAfter_1 13 rfl rfl)
def dkwX4_hoursToLaunch_4 : List UInt8 := [167, 255, 231, 29, 16, 12, 160, 0, 11, 42, 6, 182, 0, 88, 167, 0, 4, 29, 172]
abbrev dktX4_hoursToLaunch_4 : List UInt8 := dkwX4_hoursToLaunch_4 ++ []
def dkwX4_hoursToLaunch_3 : List UInt8 := [162, 0, 25, 42, 42, 180, 0, 9, 4, 46, 29, 96, 182, 0, 123, 28, 162, 0, 9, 132, 3, 1]
abbrev dktX4_hoursToLaunch_3 : List UInt8 := dkwX4_hoursToLaunch_3 ++ dktX4_hoursToLaunch_4
def dkwX4_hoursToLaunch_2 : List UInt8 := [182, 0, 62, 5, 161, 0, 8, 28, 2, 160, 0, 9, 42, 6, 182, 0, 88, 172, 3, 62, 29, 16, 12]
abbrev dktX4_hoursToLaunch_2 : List UInt8 := dkwX4_hoursToLaunch_2 ++ dktX4_hoursToLaunch_3
def dkwX4_hoursToLaunch_1 : List UInt8 := [153, 0, 9, 42, 5, 182, 0, 88, 172, 42, 27, 42, 27, 182, 0, 117, 182, 0, 120, 61, 42, 27]
abbrev dktX4_hoursToLaunch_1 : List UInt8 := dkwX4_hoursToLaunch_1 ++ dktX4_hoursToLaunch_2
def dkwX4_hoursToLaunch_0 : List UInt8 := [42, 3, 181, 0, 48, 42, 27, 182, 0, 84, 154, 0, 9, 42, 4, 182, 0, 88, 172, 42, 27, 182, 0, 81]
abbrev dktX4_hoursToLaunch_0 : List UInt8 := dkwX4_hoursToLaunch_0 ++ dktX4_hoursToLaunch_1
theorem dksX4_hoursToLaunch_0 : cX4_hoursToLaunch.data.toList.drop 0 = dktX4_hoursToLaunch_0 := by decide +kernel
theorem dksX4_hoursToLaunch_1 : cX4_hoursToLaunch.data.toList.drop 24 = dktX4_hoursToLaunch_1 := dk_seg dksX4_hoursToLaunch_0 24 rfl rfl
theorem dksX4_hoursToLaunch_2 : cX4_hoursToLaunch.data.toList.drop 46 = dktX4_hoursToLaunch_2 := dk_seg dksX4_hoursToLaunch_1 22 rfl rfl
theorem dksX4_hoursToLaunch_3 : cX4_hoursToLaunch.data.toList.drop 69 = dktX4_hoursToLaunch_3 := dk_seg dksX4_hoursToLaunch_2 23 rfl rfl
theorem dksX4_hoursToLaunch_4 : cX4_hoursToLaunch.data.toList.drop 91 = dktX4_hoursToLaunch_4 := dk_seg dksX4_hoursToLaunch_3 22 rfl rfl
theorem dX4_hoursToLaunch_0 : decode cX4_hoursToLaunch 0 = .ok (.aload_n 0, 1) := dk_42 (dk_at dksX4_hoursToLaunch_0 0 rfl rfl)
theorem dX4_hoursToLaunch_1 : decode cX4_hoursToLaunch 1 = .ok (.iconst 0, 1) := dk_3 (dk_at dksX4_hoursToLaunch_0 1 rfl rfl)
theorem dX4_hoursToLaunch_2 : decode cX4_hoursToLaunch 2 = .ok (.putfield 48, 3) := dk_181 0 48 (dk_at dksX4_hoursToLaunch_0 2 rfl rfl)
theorem dX4_hoursToLaunch_5 : decode cX4_hoursToLaunch 5 = .ok (.aload_n 0, 1) := dk_42 (dk_at dksX4_hoursToLaunch_0 5 rfl rfl)
theorem dX4_hoursToLaunch_6 : decode cX4_hoursToLaunch 6 = .ok (.iload_n 1, 1) := dk_27 (dk_at dksX4_hoursToLaunch_0 6 rfl rfl)
theorem dX4_hoursToLaunch_7 : decode cX4_hoursToLaunch 7 = .ok (.invokevirtual 84, 3) := dk_182 0 84 (dk_at dksX4_hoursToLaunch_0 7 rfl rfl)
theorem dX4_hoursToLaunch_10 : decode cX4_hoursToLaunch 10 = .ok (.ifCond .ne 9, 3) := dk_154 0 9 (dk_at dksX4_hoursToLaunch_0 10 rfl rfl)
theorem dX4_hoursToLaunch_13 : decode cX4_hoursToLaunch 13 = .ok (.aload_n 0, 1) := dk_42 (dk_at dksX4_hoursToLaunch_0 13 rfl rfl)
theorem dX4_hoursToLaunch_14 : decode cX4_hoursToLaunch 14 = .ok (.iconst 1, 1) := dk_4 (dk_at dksX4_hoursToLaunch_0 14 rfl rfl)
theorem dX4_hoursToLaunch_15 : decode cX4_hoursToLaunch 15 = .ok (.invokevirtual 88, 3) := dk_182 0 88 (dk_at dksX4_hoursToLaunch_0 15 rfl rfl)
theorem dX4_hoursToLaunch_18 : decode cX4_hoursToLaunch 18 = .ok (.ireturn, 1) := dk_172 (dk_at dksX4_hoursToLaunch_0 18 rfl rfl)
theorem dX4_hoursToLaunch_19 : decode cX4_hoursToLaunch 19 = .ok (.aload_n 0, 1) := dk_42 (dk_at dksX4_hoursToLaunch_0 19 rfl rfl)
theorem dX4_hoursToLaunch_20 : decode cX4_hoursToLaunch 20 = .ok (.iload_n 1, 1) := dk_27 (dk_at dksX4_hoursToLaunch_0 20 rfl rfl)
theorem dX4_hoursToLaunch_21 : decode cX4_hoursToLaunch 21 = .ok (.invokevirtual 81, 3) := dk_182 0 81 (dk_at dksX4_hoursToLaunch_0 21 rfl rfl)
theorem dX4_hoursToLaunch_24 : decode cX4_hoursToLaunch 24 = .ok (.ifCond .eq 9, 3) := dk_153 0 9 (dk_at dksX4_hoursToLaunch_1 0 rfl rfl)
theorem dX4_hoursToLaunch_27 : decode cX4_hoursToLaunch 27 = .ok (.aload_n 0, 1) := dk_42 (dk_at dksX4_hoursToLaunch_1 3 rfl rfl)
theorem dX4_hoursToLaunch_28 : decode cX4_hoursToLaunch 28 = .ok (.iconst 2, 1) := dk_5 (dk_at dksX4_hoursToLaunch_1 4 rfl rfl)
theorem dX4_hoursToLaunch_29 : decode cX4_hoursToLaunch 29 = .ok (.invokevirtual 88, 3) := dk_182 0 88 (dk_at dksX4_hoursToLaunch_1 5 rfl rfl)
theorem dX4_hoursToLaunch_32 : decode cX4_hoursToLaunch 32 = .ok (.ireturn, 1) := dk_172 (dk_at dksX4_hoursToLaunch_1 8 rfl rfl)
theorem dX4_hoursToLaunch_33 : decode cX4_hoursToLaunch 33 = .ok (.aload_n 0, 1) := dk_42 (dk_at dksX4_hoursToLaunch_1 9 rfl rfl)
theorem dX4_hoursToLaunch_34 : decode cX4_hoursToLaunch 34 = .ok (.iload_n 1, 1) := dk_27 (dk_at dksX4_hoursToLaunch_1 10 rfl rfl)
theorem dX4_hoursToLaunch_35 : decode cX4_hoursToLaunch 35 = .ok (.aload_n 0, 1) := dk_42 (dk_at dksX4_hoursToLaunch_1 11 rfl rfl)
theorem dX4_hoursToLaunch_36 : decode cX4_hoursToLaunch 36 = .ok (.iload_n 1, 1) := dk_27 (dk_at dksX4_hoursToLaunch_1 12 rfl rfl)
theorem dX4_hoursToLaunch_37 : decode cX4_hoursToLaunch 37 = .ok (.invokevirtual 117, 3) := dk_182 0 117 (dk_at dksX4_hoursToLaunch_1 13 rfl rfl)
theorem dX4_hoursToLaunch_40 : decode cX4_hoursToLaunch 40 = .ok (.invokevirtual 120, 3) := dk_182 0 120 (dk_at dksX4_hoursToLaunch_1 16 rfl rfl)
theorem dX4_hoursToLaunch_43 : decode cX4_hoursToLaunch 43 = .ok (.istore_n 2, 1) := dk_61 (dk_at dksX4_hoursToLaunch_1 19 rfl rfl)
theorem dX4_hoursToLaunch_44 : decode cX4_hoursToLaunch 44 = .ok (.aload_n 0, 1) := dk_42 (dk_at dksX4_hoursToLaunch_1 20 rfl rfl)
theorem dX4_hoursToLaunch_45 : decode cX4_hoursToLaunch 45 = .ok (.iload_n 1, 1) := dk_27 (dk_at dksX4_hoursToLaunch_1 21 rfl rfl)
theorem dX4_hoursToLaunch_46 : decode cX4_hoursToLaunch 46 = .ok (.invokevirtual 62, 3) := dk_182 0 62 (dk_at dksX4_hoursToLaunch_2 0 rfl rfl)
theorem dX4_hoursToLaunch_49 : decode cX4_hoursToLaunch 49 = .ok (.iconst 2, 1) := dk_5 (dk_at dksX4_hoursToLaunch_2 3 rfl rfl)
theorem dX4_hoursToLaunch_50 : decode cX4_hoursToLaunch 50 = .ok (.if_icmp .lt 8, 3) := dk_161 0 8 (dk_at dksX4_hoursToLaunch_2 4 rfl rfl)
theorem dX4_hoursToLaunch_53 : decode cX4_hoursToLaunch 53 = .ok (.iload_n 2, 1) := dk_28 (dk_at dksX4_hoursToLaunch_2 7 rfl rfl)
theorem dX4_hoursToLaunch_54 : decode cX4_hoursToLaunch 54 = .ok (.iconst (-1), 1) := dk_2 (dk_at dksX4_hoursToLaunch_2 8 rfl rfl)
theorem dX4_hoursToLaunch_55 : decode cX4_hoursToLaunch 55 = .ok (.if_icmp .ne 9, 3) := dk_160 0 9 (dk_at dksX4_hoursToLaunch_2 9 rfl rfl)
theorem dX4_hoursToLaunch_58 : decode cX4_hoursToLaunch 58 = .ok (.aload_n 0, 1) := dk_42 (dk_at dksX4_hoursToLaunch_2 12 rfl rfl)
theorem dX4_hoursToLaunch_59 : decode cX4_hoursToLaunch 59 = .ok (.iconst 3, 1) := dk_6 (dk_at dksX4_hoursToLaunch_2 13 rfl rfl)
theorem dX4_hoursToLaunch_60 : decode cX4_hoursToLaunch 60 = .ok (.invokevirtual 88, 3) := dk_182 0 88 (dk_at dksX4_hoursToLaunch_2 14 rfl rfl)
theorem dX4_hoursToLaunch_63 : decode cX4_hoursToLaunch 63 = .ok (.ireturn, 1) := dk_172 (dk_at dksX4_hoursToLaunch_2 17 rfl rfl)
theorem dX4_hoursToLaunch_64 : decode cX4_hoursToLaunch 64 = .ok (.iconst 0, 1) := dk_3 (dk_at dksX4_hoursToLaunch_2 18 rfl rfl)
theorem dX4_hoursToLaunch_65 : decode cX4_hoursToLaunch 65 = .ok (.istore_n 3, 1) := dk_62 (dk_at dksX4_hoursToLaunch_2 19 rfl rfl)
theorem dX4_hoursToLaunch_66 : decode cX4_hoursToLaunch 66 = .ok (.iload_n 3, 1) := dk_29 (dk_at dksX4_hoursToLaunch_2 20 rfl rfl)
theorem dX4_hoursToLaunch_67 : decode cX4_hoursToLaunch 67 = .ok (.bipush 12, 2) := dk_16 12 (dk_at dksX4_hoursToLaunch_2 21 rfl rfl)
theorem dX4_hoursToLaunch_69 : decode cX4_hoursToLaunch 69 = .ok (.if_icmp .ge 25, 3) := dk_162 0 25 (dk_at dksX4_hoursToLaunch_3 0 rfl rfl)
theorem dX4_hoursToLaunch_72 : decode cX4_hoursToLaunch 72 = .ok (.aload_n 0, 1) := dk_42 (dk_at dksX4_hoursToLaunch_3 3 rfl rfl)
theorem dX4_hoursToLaunch_73 : decode cX4_hoursToLaunch 73 = .ok (.aload_n 0, 1) := dk_42 (dk_at dksX4_hoursToLaunch_3 4 rfl rfl)
theorem dX4_hoursToLaunch_74 : decode cX4_hoursToLaunch 74 = .ok (.getfield 9, 3) := dk_180 0 9 (dk_at dksX4_hoursToLaunch_3 5 rfl rfl)
theorem dX4_hoursToLaunch_77 : decode cX4_hoursToLaunch 77 = .ok (.iconst 1, 1) := dk_4 (dk_at dksX4_hoursToLaunch_3 8 rfl rfl)
theorem dX4_hoursToLaunch_78 : decode cX4_hoursToLaunch 78 = .ok (.iaload, 1) := dk_46 (dk_at dksX4_hoursToLaunch_3 9 rfl rfl)
theorem dX4_hoursToLaunch_79 : decode cX4_hoursToLaunch 79 = .ok (.iload_n 3, 1) := dk_29 (dk_at dksX4_hoursToLaunch_3 10 rfl rfl)
theorem dX4_hoursToLaunch_80 : decode cX4_hoursToLaunch 80 = .ok (.iadd, 1) := dk_96 (dk_at dksX4_hoursToLaunch_3 11 rfl rfl)
theorem dX4_hoursToLaunch_81 : decode cX4_hoursToLaunch 81 = .ok (.invokevirtual 123, 3) := dk_182 0 123 (dk_at dksX4_hoursToLaunch_3 12 rfl rfl)
theorem dX4_hoursToLaunch_84 : decode cX4_hoursToLaunch 84 = .ok (.iload_n 2, 1) := dk_28 (dk_at dksX4_hoursToLaunch_3 15 rfl rfl)
theorem dX4_hoursToLaunch_85 : decode cX4_hoursToLaunch 85 = .ok (.if_icmp .ge 9, 3) := dk_162 0 9 (dk_at dksX4_hoursToLaunch_3 16 rfl rfl)
theorem dX4_hoursToLaunch_88 : decode cX4_hoursToLaunch 88 = .ok (.iinc 3 1, 3) := dk_132 3 1 (dk_at dksX4_hoursToLaunch_3 19 rfl rfl)
theorem dX4_hoursToLaunch_91 : decode cX4_hoursToLaunch 91 = .ok (.goto (-25), 3) := dk_167 255 231 (dk_at dksX4_hoursToLaunch_4 0 rfl rfl)
theorem dX4_hoursToLaunch_94 : decode cX4_hoursToLaunch 94 = .ok (.iload_n 3, 1) := dk_29 (dk_at dksX4_hoursToLaunch_4 3 rfl rfl)
theorem dX4_hoursToLaunch_95 : decode cX4_hoursToLaunch 95 = .ok (.bipush 12, 2) := dk_16 12 (dk_at dksX4_hoursToLaunch_4 4 rfl rfl)
theorem dX4_hoursToLaunch_97 : decode cX4_hoursToLaunch 97 = .ok (.if_icmp .ne 11, 3) := dk_160 0 11 (dk_at dksX4_hoursToLaunch_4 6 rfl rfl)
theorem dX4_hoursToLaunch_100 : decode cX4_hoursToLaunch 100 = .ok (.aload_n 0, 1) := dk_42 (dk_at dksX4_hoursToLaunch_4 9 rfl rfl)
theorem dX4_hoursToLaunch_101 : decode cX4_hoursToLaunch 101 = .ok (.iconst 3, 1) := dk_6 (dk_at dksX4_hoursToLaunch_4 10 rfl rfl)
theorem dX4_hoursToLaunch_102 : decode cX4_hoursToLaunch 102 = .ok (.invokevirtual 88, 3) := dk_182 0 88 (dk_at dksX4_hoursToLaunch_4 11 rfl rfl)
theorem dX4_hoursToLaunch_105 : decode cX4_hoursToLaunch 105 = .ok (.goto 4, 3) := dk_167 0 4 (dk_at dksX4_hoursToLaunch_4 14 rfl rfl)
theorem dX4_hoursToLaunch_108 : decode cX4_hoursToLaunch 108 = .ok (.iload_n 3, 1) := dk_29 (dk_at dksX4_hoursToLaunch_4 17 rfl rfl)
theorem dX4_hoursToLaunch_109 : decode cX4_hoursToLaunch 109 = .ok (.ireturn, 1) := dk_172 (dk_at dksX4_hoursToLaunch_4 18 rfl rfl)
def dkwX4_hoursToLaunchByTides_0 : List UInt8 := [42, 27, 182, 0, 194, 172]
abbrev dktX4_hoursToLaunchByTides_0 : List UInt8 := dkwX4_hoursToLaunchByTides_0 ++ []
theorem dksX4_hoursToLaunchByTides_0 : cX4_hoursToLaunchByTides.data.toList.drop 0 = dktX4_hoursToLaunchByTides_0 := by decide +kernel
theorem dX4_hoursToLaunchByTides_0 : decode cX4_hoursToLaunchByTides 0 = .ok (.aload_n 0, 1) := dk_42 (dk_at dksX4_hoursToLaunchByTides_0 0 rfl rfl)
theorem dX4_hoursToLaunchByTides_1 : decode cX4_hoursToLaunchByTides 1 = .ok (.iload_n 1, 1) := dk_27 (dk_at dksX4_hoursToLaunchByTides_0 1 rfl rfl)
theorem dX4_hoursToLaunchByTides_2 : decode cX4_hoursToLaunchByTides 2 = .ok (.invokevirtual 194, 3) := dk_182 0 194 (dk_at dksX4_hoursToLaunchByTides_0 2 rfl rfl)
theorem dX4_hoursToLaunchByTides_5 : decode cX4_hoursToLaunchByTides 5 = .ok (.ireturn, 1) := dk_172 (dk_at dksX4_hoursToLaunchByTides_0 5 rfl rfl)
def dkwX4_hoursToSinking_7 : List UInt8 := [28, 182, 0, 120, 2, 160, 0, 5, 29, 172, 132, 3, 1, 167, 255, 158, 42, 6, 182, 0, 88, 172]
abbrev dktX4_hoursToSinking_7 : List UInt8 := dkwX4_hoursToSinking_7 ++ []
def dkwX4_hoursToSinking_6 : List UInt8 := [4, 100, 184, 0, 65, 167, 0, 10, 42, 180, 0, 32, 21, 4, 46, 79, 132, 4, 1, 167, 255, 186, 42, 27]
abbrev dktX4_hoursToSinking_6 : List UInt8 := dkwX4_hoursToSinking_6 ++ dktX4_hoursToSinking_7
def dkwX4_hoursToSinking_5 : List UInt8 := [21, 4, 42, 180, 0, 9, 4, 46, 29, 96, 16, 6, 112, 154, 0, 19, 3, 42, 180, 0, 32, 21, 4, 46]
abbrev dktX4_hoursToSinking_5 : List UInt8 := dkwX4_hoursToSinking_5 ++ dktX4_hoursToSinking_6
def dkwX4_hoursToSinking_4 : List UInt8 := [27, 182, 0, 78, 162, 0, 66, 28, 16, 9, 42, 180, 0, 32, 21, 4, 46, 100, 96, 61, 42, 180, 0, 32]
abbrev dktX4_hoursToSinking_4 : List UInt8 := dkwX4_hoursToSinking_4 ++ dktX4_hoursToSinking_5
def dkwX4_hoursToSinking_3 : List UInt8 := [167, 255, 224, 42, 27, 182, 0, 117, 61, 4, 62, 29, 17, 1, 244, 163, 0, 97, 3, 54, 4, 21, 4, 42]
abbrev dktX4_hoursToSinking_3 : List UInt8 := dkwX4_hoursToSinking_3 ++ dktX4_hoursToSinking_4
def dkwX4_hoursToSinking_2 : List UInt8 := [180, 0, 32, 28, 42, 180, 0, 9, 27, 184, 0, 58, 16, 20, 96, 28, 96, 46, 79, 132, 2, 1]
abbrev dktX4_hoursToSinking_2 : List UInt8 := dkwX4_hoursToSinking_2 ++ dktX4_hoursToSinking_3
def dkwX4_hoursToSinking_1 : List UInt8 := [4, 159, 0, 9, 42, 5, 182, 0, 88, 172, 3, 61, 28, 42, 27, 182, 0, 78, 162, 0, 29, 42]
abbrev dktX4_hoursToSinking_1 : List UInt8 := dkwX4_hoursToSinking_1 ++ dktX4_hoursToSinking_2
def dkwX4_hoursToSinking_0 : List UInt8 := [42, 3, 181, 0, 48, 42, 27, 182, 0, 84, 154, 0, 9, 42, 4, 182, 0, 88, 172, 42, 27, 182, 0, 81]
abbrev dktX4_hoursToSinking_0 : List UInt8 := dkwX4_hoursToSinking_0 ++ dktX4_hoursToSinking_1
theorem dksX4_hoursToSinking_0 : cX4_hoursToSinking.data.toList.drop 0 = dktX4_hoursToSinking_0 := by decide +kernel
theorem dksX4_hoursToSinking_1 : cX4_hoursToSinking.data.toList.drop 24 = dktX4_hoursToSinking_1 := dk_seg dksX4_hoursToSinking_0 24 rfl rfl
theorem dksX4_hoursToSinking_2 : cX4_hoursToSinking.data.toList.drop 46 = dktX4_hoursToSinking_2 := dk_seg dksX4_hoursToSinking_1 22 rfl rfl
theorem dksX4_hoursToSinking_3 : cX4_hoursToSinking.data.toList.drop 68 = dktX4_hoursToSinking_3 := dk_seg dksX4_hoursToSinking_2 22 rfl rfl
theorem dksX4_hoursToSinking_4 : cX4_hoursToSinking.data.toList.drop 92 = dktX4_hoursToSinking_4 := dk_seg dksX4_hoursToSinking_3 24 rfl rfl
theorem dksX4_hoursToSinking_5 : cX4_hoursToSinking.data.toList.drop 116 = dktX4_hoursToSinking_5 := dk_seg dksX4_hoursToSinking_4 24 rfl rfl
theorem dksX4_hoursToSinking_6 : cX4_hoursToSinking.data.toList.drop 140 = dktX4_hoursToSinking_6 := dk_seg dksX4_hoursToSinking_5 24 rfl rfl
theorem dksX4_hoursToSinking_7 : cX4_hoursToSinking.data.toList.drop 164 = dktX4_hoursToSinking_7 := dk_seg dksX4_hoursToSinking_6 24 rfl rfl
theorem dX4_hoursToSinking_0 : decode cX4_hoursToSinking 0 = .ok (.aload_n 0, 1) := dk_42 (dk_at dksX4_hoursToSinking_0 0 rfl rfl)
theorem dX4_hoursToSinking_1 : decode cX4_hoursToSinking 1 = .ok (.iconst 0, 1) := dk_3 (dk_at dksX4_hoursToSinking_0 1 rfl rfl)
theorem dX4_hoursToSinking_2 : decode cX4_hoursToSinking 2 = .ok (.putfield 48, 3) := dk_181 0 48 (dk_at dksX4_hoursToSinking_0 2 rfl rfl)
theorem dX4_hoursToSinking_5 : decode cX4_hoursToSinking 5 = .ok (.aload_n 0, 1) := dk_42 (dk_at dksX4_hoursToSinking_0 5 rfl rfl)
theorem dX4_hoursToSinking_6 : decode cX4_hoursToSinking 6 = .ok (.iload_n 1, 1) := dk_27 (dk_at dksX4_hoursToSinking_0 6 rfl rfl)
theorem dX4_hoursToSinking_7 : decode cX4_hoursToSinking 7 = .ok (.invokevirtual 84, 3) := dk_182 0 84 (dk_at dksX4_hoursToSinking_0 7 rfl rfl)
theorem dX4_hoursToSinking_10 : decode cX4_hoursToSinking 10 = .ok (.ifCond .ne 9, 3) := dk_154 0 9 (dk_at dksX4_hoursToSinking_0 10 rfl rfl)
theorem dX4_hoursToSinking_13 : decode cX4_hoursToSinking 13 = .ok (.aload_n 0, 1) := dk_42 (dk_at dksX4_hoursToSinking_0 13 rfl rfl)
theorem dX4_hoursToSinking_14 : decode cX4_hoursToSinking 14 = .ok (.iconst 1, 1) := dk_4 (dk_at dksX4_hoursToSinking_0 14 rfl rfl)
theorem dX4_hoursToSinking_15 : decode cX4_hoursToSinking 15 = .ok (.invokevirtual 88, 3) := dk_182 0 88 (dk_at dksX4_hoursToSinking_0 15 rfl rfl)
theorem dX4_hoursToSinking_18 : decode cX4_hoursToSinking 18 = .ok (.ireturn, 1) := dk_172 (dk_at dksX4_hoursToSinking_0 18 rfl rfl)
theorem dX4_hoursToSinking_19 : decode cX4_hoursToSinking 19 = .ok (.aload_n 0, 1) := dk_42 (dk_at dksX4_hoursToSinking_0 19 rfl rfl)
theorem dX4_hoursToSinking_20 : decode cX4_hoursToSinking 20 = .ok (.iload_n 1, 1) := dk_27 (dk_at dksX4_hoursToSinking_0 20 rfl rfl)
theorem dX4_hoursToSinking_21 : decode cX4_hoursToSinking 21 = .ok (.invokevirtual 81, 3) := dk_182 0 81 (dk_at dksX4_hoursToSinking_0 21 rfl rfl)
theorem dX4_hoursToSinking_24 : decode cX4_hoursToSinking 24 = .ok (.iconst 1, 1) := dk_4 (dk_at dksX4_hoursToSinking_1 0 rfl rfl)
theorem dX4_hoursToSinking_25 : decode cX4_hoursToSinking 25 = .ok (.if_icmp .eq 9, 3) := dk_159 0 9 (dk_at dksX4_hoursToSinking_1 1 rfl rfl)
theorem dX4_hoursToSinking_28 : decode cX4_hoursToSinking 28 = .ok (.aload_n 0, 1) := dk_42 (dk_at dksX4_hoursToSinking_1 4 rfl rfl)
theorem dX4_hoursToSinking_29 : decode cX4_hoursToSinking 29 = .ok (.iconst 2, 1) := dk_5 (dk_at dksX4_hoursToSinking_1 5 rfl rfl)
theorem dX4_hoursToSinking_30 : decode cX4_hoursToSinking 30 = .ok (.invokevirtual 88, 3) := dk_182 0 88 (dk_at dksX4_hoursToSinking_1 6 rfl rfl)
theorem dX4_hoursToSinking_33 : decode cX4_hoursToSinking 33 = .ok (.ireturn, 1) := dk_172 (dk_at dksX4_hoursToSinking_1 9 rfl rfl)
theorem dX4_hoursToSinking_34 : decode cX4_hoursToSinking 34 = .ok (.iconst 0, 1) := dk_3 (dk_at dksX4_hoursToSinking_1 10 rfl rfl)
theorem dX4_hoursToSinking_35 : decode cX4_hoursToSinking 35 = .ok (.istore_n 2, 1) := dk_61 (dk_at dksX4_hoursToSinking_1 11 rfl rfl)
theorem dX4_hoursToSinking_36 : decode cX4_hoursToSinking 36 = .ok (.iload_n 2, 1) := dk_28 (dk_at dksX4_hoursToSinking_1 12 rfl rfl)
theorem dX4_hoursToSinking_37 : decode cX4_hoursToSinking 37 = .ok (.aload_n 0, 1) := dk_42 (dk_at dksX4_hoursToSinking_1 13 rfl rfl)
theorem dX4_hoursToSinking_38 : decode cX4_hoursToSinking 38 = .ok (.iload_n 1, 1) := dk_27 (dk_at dksX4_hoursToSinking_1 14 rfl rfl)
theorem dX4_hoursToSinking_39 : decode cX4_hoursToSinking 39 = .ok (.invokevirtual 78, 3) := dk_182 0 78 (dk_at dksX4_hoursToSinking_1 15 rfl rfl)
theorem dX4_hoursToSinking_42 : decode cX4_hoursToSinking 42 = .ok (.if_icmp .ge 29, 3) := dk_162 0 29 (dk_at dksX4_hoursToSinking_1 18 rfl rfl)
theorem dX4_hoursToSinking_45 : decode cX4_hoursToSinking 45 = .ok (.aload_n 0, 1) := dk_42 (dk_at dksX4_hoursToSinking_1 21 rfl rfl)
theorem dX4_hoursToSinking_46 : decode cX4_hoursToSinking 46 = .ok (.getfield 32, 3) := dk_180 0 32 (dk_at dksX4_hoursToSinking_2 0 rfl rfl)
theorem dX4_hoursToSinking_49 : decode cX4_hoursToSinking 49 = .ok (.iload_n 2, 1) := dk_28 (dk_at dksX4_hoursToSinking_2 3 rfl rfl)
theorem dX4_hoursToSinking_50 : decode cX4_hoursToSinking 50 = .ok (.aload_n 0, 1) := dk_42 (dk_at dksX4_hoursToSinking_2 4 rfl rfl)
theorem dX4_hoursToSinking_51 : decode cX4_hoursToSinking 51 = .ok (.getfield 9, 3) := dk_180 0 9 (dk_at dksX4_hoursToSinking_2 5 rfl rfl)
theorem dX4_hoursToSinking_54 : decode cX4_hoursToSinking 54 = .ok (.iload_n 1, 1) := dk_27 (dk_at dksX4_hoursToSinking_2 8 rfl rfl)
theorem dX4_hoursToSinking_55 : decode cX4_hoursToSinking 55 = .ok (.invokestatic 58, 3) := dk_184 0 58 (dk_at dksX4_hoursToSinking_2 9 rfl rfl)
theorem dX4_hoursToSinking_58 : decode cX4_hoursToSinking 58 = .ok (.bipush 20, 2) := dk_16 20 (dk_at dksX4_hoursToSinking_2 12 rfl rfl)
theorem dX4_hoursToSinking_60 : decode cX4_hoursToSinking 60 = .ok (.iadd, 1) := dk_96 (dk_at dksX4_hoursToSinking_2 14 rfl rfl)
theorem dX4_hoursToSinking_61 : decode cX4_hoursToSinking 61 = .ok (.iload_n 2, 1) := dk_28 (dk_at dksX4_hoursToSinking_2 15 rfl rfl)
theorem dX4_hoursToSinking_62 : decode cX4_hoursToSinking 62 = .ok (.iadd, 1) := dk_96 (dk_at dksX4_hoursToSinking_2 16 rfl rfl)
theorem dX4_hoursToSinking_63 : decode cX4_hoursToSinking 63 = .ok (.iaload, 1) := dk_46 (dk_at dksX4_hoursToSinking_2 17 rfl rfl)
theorem dX4_hoursToSinking_64 : decode cX4_hoursToSinking 64 = .ok (.iastore, 1) := dk_79 (dk_at dksX4_hoursToSinking_2 18 rfl rfl)
theorem dX4_hoursToSinking_65 : decode cX4_hoursToSinking 65 = .ok (.iinc 2 1, 3) := dk_132 2 1 (dk_at dksX4_hoursToSinking_2 19 rfl rfl)
theorem dX4_hoursToSinking_68 : decode cX4_hoursToSinking 68 = .ok (.goto (-32), 3) := dk_167 255 224 (dk_at dksX4_hoursToSinking_3 0 rfl rfl)
theorem dX4_hoursToSinking_71 : decode cX4_hoursToSinking 71 = .ok (.aload_n 0, 1) := dk_42 (dk_at dksX4_hoursToSinking_3 3 rfl rfl)
theorem dX4_hoursToSinking_72 : decode cX4_hoursToSinking 72 = .ok (.iload_n 1, 1) := dk_27 (dk_at dksX4_hoursToSinking_3 4 rfl rfl)
theorem dX4_hoursToSinking_73 : decode cX4_hoursToSinking 73 = .ok (.invokevirtual 117, 3) := dk_182 0 117 (dk_at dksX4_hoursToSinking_3 5 rfl rfl)
theorem dX4_hoursToSinking_76 : decode cX4_hoursToSinking 76 = .ok (.istore_n 2, 1) := dk_61 (dk_at dksX4_hoursToSinking_3 8 rfl rfl)
theorem dX4_hoursToSinking_77 : decode cX4_hoursToSinking 77 = .ok (.iconst 1, 1) := dk_4 (dk_at dksX4_hoursToSinking_3 9 rfl rfl)
theorem dX4_hoursToSinking_78 : decode cX4_hoursToSinking 78 = .ok (.istore_n 3, 1) := dk_62 (dk_at dksX4_hoursToSinking_3 10 rfl rfl)
theorem dX4_hoursToSinking_79 : decode cX4_hoursToSinking 79 = .ok (.iload_n 3, 1) := dk_29 (dk_at dksX4_hoursToSinking_3 11 rfl rfl)
theorem dX4_hoursToSinking_80 : decode cX4_hoursToSinking 80 = .ok (.sipush 500, 3) := dk_17 1 244 (dk_at dksX4_hoursToSinking_3 12 rfl rfl)
theorem dX4_hoursToSinking_83 : decode cX4_hoursToSinking 83 = .ok (.if_icmp .gt 97, 3) := dk_163 0 97 (dk_at dksX4_hoursToSinking_3 15 rfl rfl)
theorem dX4_hoursToSinking_86 : decode cX4_hoursToSinking 86 = .ok (.iconst 0, 1) := dk_3 (dk_at dksX4_hoursToSinking_3 18 rfl rfl)
theorem dX4_hoursToSinking_87 : decode cX4_hoursToSinking 87 = .ok (.istore 4, 2) := dk_54 4 (dk_at dksX4_hoursToSinking_3 19 rfl rfl)
theorem dX4_hoursToSinking_89 : decode cX4_hoursToSinking 89 = .ok (.iload 4, 2) := dk_21 4 (dk_at dksX4_hoursToSinking_3 21 rfl rfl)
theorem dX4_hoursToSinking_91 : decode cX4_hoursToSinking 91 = .ok (.aload_n 0, 1) := dk_42 (dk_at dksX4_hoursToSinking_3 23 rfl rfl)
theorem dX4_hoursToSinking_92 : decode cX4_hoursToSinking 92 = .ok (.iload_n 1, 1) := dk_27 (dk_at dksX4_hoursToSinking_4 0 rfl rfl)
theorem dX4_hoursToSinking_93 : decode cX4_hoursToSinking 93 = .ok (.invokevirtual 78, 3) := dk_182 0 78 (dk_at dksX4_hoursToSinking_4 1 rfl rfl)
theorem dX4_hoursToSinking_96 : decode cX4_hoursToSinking 96 = .ok (.if_icmp .ge 66, 3) := dk_162 0 66 (dk_at dksX4_hoursToSinking_4 4 rfl rfl)
theorem dX4_hoursToSinking_99 : decode cX4_hoursToSinking 99 = .ok (.iload_n 2, 1) := dk_28 (dk_at dksX4_hoursToSinking_4 7 rfl rfl)
theorem dX4_hoursToSinking_100 : decode cX4_hoursToSinking 100 = .ok (.bipush 9, 2) := dk_16 9 (dk_at dksX4_hoursToSinking_4 8 rfl rfl)
theorem dX4_hoursToSinking_102 : decode cX4_hoursToSinking 102 = .ok (.aload_n 0, 1) := dk_42 (dk_at dksX4_hoursToSinking_4 10 rfl rfl)
theorem dX4_hoursToSinking_103 : decode cX4_hoursToSinking 103 = .ok (.getfield 32, 3) := dk_180 0 32 (dk_at dksX4_hoursToSinking_4 11 rfl rfl)
theorem dX4_hoursToSinking_106 : decode cX4_hoursToSinking 106 = .ok (.iload 4, 2) := dk_21 4 (dk_at dksX4_hoursToSinking_4 14 rfl rfl)
theorem dX4_hoursToSinking_108 : decode cX4_hoursToSinking 108 = .ok (.iaload, 1) := dk_46 (dk_at dksX4_hoursToSinking_4 16 rfl rfl)
theorem dX4_hoursToSinking_109 : decode cX4_hoursToSinking 109 = .ok (.isub, 1) := dk_100 (dk_at dksX4_hoursToSinking_4 17 rfl rfl)
theorem dX4_hoursToSinking_110 : decode cX4_hoursToSinking 110 = .ok (.iadd, 1) := dk_96 (dk_at dksX4_hoursToSinking_4 18 rfl rfl)
theorem dX4_hoursToSinking_111 : decode cX4_hoursToSinking 111 = .ok (.istore_n 2, 1) := dk_61 (dk_at dksX4_hoursToSinking_4 19 rfl rfl)
theorem dX4_hoursToSinking_112 : decode cX4_hoursToSinking 112 = .ok (.aload_n 0, 1) := dk_42 (dk_at dksX4_hoursToSinking_4 20 rfl rfl)
theorem dX4_hoursToSinking_113 : decode cX4_hoursToSinking 113 = .ok (.getfield 32, 3) := dk_180 0 32 (dk_at dksX4_hoursToSinking_4 21 rfl rfl)
theorem dX4_hoursToSinking_116 : decode cX4_hoursToSinking 116 = .ok (.iload 4, 2) := dk_21 4 (dk_at dksX4_hoursToSinking_5 0 rfl rfl)
theorem dX4_hoursToSinking_118 : decode cX4_hoursToSinking 118 = .ok (.aload_n 0, 1) := dk_42 (dk_at dksX4_hoursToSinking_5 2 rfl rfl)
theorem dX4_hoursToSinking_119 : decode cX4_hoursToSinking 119 = .ok (.getfield 9, 3) := dk_180 0 9 (dk_at dksX4_hoursToSinking_5 3 rfl rfl)
theorem dX4_hoursToSinking_122 : decode cX4_hoursToSinking 122 = .ok (.iconst 1, 1) := dk_4 (dk_at dksX4_hoursToSinking_5 6 rfl rfl)
theorem dX4_hoursToSinking_123 : decode cX4_hoursToSinking 123 = .ok (.iaload, 1) := dk_46 (dk_at dksX4_hoursToSinking_5 7 rfl rfl)
theorem dX4_hoursToSinking_124 : decode cX4_hoursToSinking 124 = .ok (.iload_n 3, 1) := dk_29 (dk_at dksX4_hoursToSinking_5 8 rfl rfl)
theorem dX4_hoursToSinking_125 : decode cX4_hoursToSinking 125 = .ok (.iadd, 1) := dk_96 (dk_at dksX4_hoursToSinking_5 9 rfl rfl)
theorem dX4_hoursToSinking_126 : decode cX4_hoursToSinking 126 = .ok (.bipush 6, 2) := dk_16 6 (dk_at dksX4_hoursToSinking_5 10 rfl rfl)
theorem dX4_hoursToSinking_128 : decode cX4_hoursToSinking 128 = .ok (.irem, 1) := dk_112 (dk_at dksX4_hoursToSinking_5 12 rfl rfl)
theorem dX4_hoursToSinking_129 : decode cX4_hoursToSinking 129 = .ok (.ifCond .ne 19, 3) := dk_154 0 19 (dk_at dksX4_hoursToSinking_5 13 rfl rfl)
theorem dX4_hoursToSinking_132 : decode cX4_hoursToSinking 132 = .ok (.iconst 0, 1) := dk_3 (dk_at dksX4_hoursToSinking_5 16 rfl rfl)
theorem dX4_hoursToSinking_133 : decode cX4_hoursToSinking 133 = .ok (.aload_n 0, 1) := dk_42 (dk_at dksX4_hoursToSinking_5 17 rfl rfl)
theorem dX4_hoursToSinking_134 : decode cX4_hoursToSinking 134 = .ok (.getfield 32, 3) := dk_180 0 32 (dk_at dksX4_hoursToSinking_5 18 rfl rfl)
theorem dX4_hoursToSinking_137 : decode cX4_hoursToSinking 137 = .ok (.iload 4, 2) := dk_21 4 (dk_at dksX4_hoursToSinking_5 21 rfl rfl)
theorem dX4_hoursToSinking_139 : decode cX4_hoursToSinking 139 = .ok (.iaload, 1) := dk_46 (dk_at dksX4_hoursToSinking_5 23 rfl rfl)
theorem dX4_hoursToSinking_140 : decode cX4_hoursToSinking 140 = .ok (.iconst 1, 1) := dk_4 (dk_at dksX4_hoursToSinking_6 0 rfl rfl)
theorem dX4_hoursToSinking_141 : decode cX4_hoursToSinking 141 = .ok (.isub, 1) := dk_100 (dk_at dksX4_hoursToSinking_6 1 rfl rfl)
theorem dX4_hoursToSinking_142 : decode cX4_hoursToSinking 142 = .ok (.invokestatic 65, 3) := dk_184 0 65 (dk_at dksX4_hoursToSinking_6 2 rfl rfl)
theorem dX4_hoursToSinking_145 : decode cX4_hoursToSinking 145 = .ok (.goto 10, 3) := dk_167 0 10 (dk_at dksX4_hoursToSinking_6 5 rfl rfl)
theorem dX4_hoursToSinking_148 : decode cX4_hoursToSinking 148 = .ok (.aload_n 0, 1) := dk_42 (dk_at dksX4_hoursToSinking_6 8 rfl rfl)
theorem dX4_hoursToSinking_149 : decode cX4_hoursToSinking 149 = .ok (.getfield 32, 3) := dk_180 0 32 (dk_at dksX4_hoursToSinking_6 9 rfl rfl)
theorem dX4_hoursToSinking_152 : decode cX4_hoursToSinking 152 = .ok (.iload 4, 2) := dk_21 4 (dk_at dksX4_hoursToSinking_6 12 rfl rfl)
theorem dX4_hoursToSinking_154 : decode cX4_hoursToSinking 154 = .ok (.iaload, 1) := dk_46 (dk_at dksX4_hoursToSinking_6 14 rfl rfl)
theorem dX4_hoursToSinking_155 : decode cX4_hoursToSinking 155 = .ok (.iastore, 1) := dk_79 (dk_at dksX4_hoursToSinking_6 15 rfl rfl)
theorem dX4_hoursToSinking_156 : decode cX4_hoursToSinking 156 = .ok (.iinc 4 1, 3) := dk_132 4 1 (dk_at dksX4_hoursToSinking_6 16 rfl rfl)
theorem dX4_hoursToSinking_159 : decode cX4_hoursToSinking 159 = .ok (.goto (-70), 3) := dk_167 255 186 (dk_at dksX4_hoursToSinking_6 19 rfl rfl)
theorem dX4_hoursToSinking_162 : decode cX4_hoursToSinking 162 = .ok (.aload_n 0, 1) := dk_42 (dk_at dksX4_hoursToSinking_6 22 rfl rfl)
theorem dX4_hoursToSinking_163 : decode cX4_hoursToSinking 163 = .ok (.iload_n 1, 1) := dk_27 (dk_at dksX4_hoursToSinking_6 23 rfl rfl)
theorem dX4_hoursToSinking_164 : decode cX4_hoursToSinking 164 = .ok (.iload_n 2, 1) := dk_28 (dk_at dksX4_hoursToSinking_7 0 rfl rfl)
theorem dX4_hoursToSinking_165 : decode cX4_hoursToSinking 165 = .ok (.invokevirtual 120, 3) := dk_182 0 120 (dk_at dksX4_hoursToSinking_7 1 rfl rfl)
theorem dX4_hoursToSinking_168 : decode cX4_hoursToSinking 168 = .ok (.iconst (-1), 1) := dk_2 (dk_at dksX4_hoursToSinking_7 4 rfl rfl)
theorem dX4_hoursToSinking_169 : decode cX4_hoursToSinking 169 = .ok (.if_icmp .ne 5, 3) := dk_160 0 5 (dk_at dksX4_hoursToSinking_7 5 rfl rfl)
theorem dX4_hoursToSinking_172 : decode cX4_hoursToSinking 172 = .ok (.iload_n 3, 1) := dk_29 (dk_at dksX4_hoursToSinking_7 8 rfl rfl)
theorem dX4_hoursToSinking_173 : decode cX4_hoursToSinking 173 = .ok (.ireturn, 1) := dk_172 (dk_at dksX4_hoursToSinking_7 9 rfl rfl)
theorem dX4_hoursToSinking_174 : decode cX4_hoursToSinking 174 = .ok (.iinc 3 1, 3) := dk_132 3 1 (dk_at dksX4_hoursToSinking_7 10 rfl rfl)
theorem dX4_hoursToSinking_177 : decode cX4_hoursToSinking 177 = .ok (.goto (-98), 3) := dk_167 255 158 (dk_at dksX4_hoursToSinking_7 13 rfl rfl)
theorem dX4_hoursToSinking_180 : decode cX4_hoursToSinking 180 = .ok (.aload_n 0, 1) := dk_42 (dk_at dksX4_hoursToSinking_7 16 rfl rfl)
theorem dX4_hoursToSinking_181 : decode cX4_hoursToSinking 181 = .ok (.iconst 3, 1) := dk_6 (dk_at dksX4_hoursToSinking_7 17 rfl rfl)
theorem dX4_hoursToSinking_182 : decode cX4_hoursToSinking 182 = .ok (.invokevirtual 88, 3) := dk_182 0 88 (dk_at dksX4_hoursToSinking_7 18 rfl rfl)
theorem dX4_hoursToSinking_185 : decode cX4_hoursToSinking 185 = .ok (.ireturn, 1) := dk_172 (dk_at dksX4_hoursToSinking_7 21 rfl rfl)
def dkwX4_slipLength_1 : List UInt8 := [96, 46, 167, 0, 8, 42, 4, 182, 0, 88, 172]
abbrev dktX4_slipLength_1 : List UInt8 := dkwX4_slipLength_1 ++ []
def dkwX4_slipLength_0 : List UInt8 := [42, 3, 181, 0, 48, 27, 133, 9, 20, 0, 157, 184, 0, 54, 153, 0, 15, 42, 180, 0, 9, 16, 17, 27]
abbrev dktX4_slipLength_0 : List UInt8 := dkwX4_slipLength_0 ++ dktX4_slipLength_1
theorem dksX4_slipLength_0 : cX4_slipLength.data.toList.drop 0 = dktX4_slipLength_0 := by decide +kernel
theorem dksX4_slipLength_1 : cX4_slipLength.data.toList.drop 24 = dktX4_slipLength_1 := dk_seg dksX4_slipLength_0 24 rfl rfl
theorem dX4_slipLength_0 : decode cX4_slipLength 0 = .ok (.aload_n 0, 1) := dk_42 (dk_at dksX4_slipLength_0 0 rfl rfl)
theorem dX4_slipLength_1 : decode cX4_slipLength 1 = .ok (.iconst 0, 1) := dk_3 (dk_at dksX4_slipLength_0 1 rfl rfl)
theorem dX4_slipLength_2 : decode cX4_slipLength 2 = .ok (.putfield 48, 3) := dk_181 0 48 (dk_at dksX4_slipLength_0 2 rfl rfl)
theorem dX4_slipLength_5 : decode cX4_slipLength 5 = .ok (.iload_n 1, 1) := dk_27 (dk_at dksX4_slipLength_0 5 rfl rfl)
theorem dX4_slipLength_6 : decode cX4_slipLength 6 = .ok (.i2l, 1) := dk_133 (dk_at dksX4_slipLength_0 6 rfl rfl)
theorem dX4_slipLength_7 : decode cX4_slipLength 7 = .ok (.lconst 0, 1) := dk_9 (dk_at dksX4_slipLength_0 7 rfl rfl)
theorem dX4_slipLength_8 : decode cX4_slipLength 8 = .ok (.ldc2_w 157, 3) := dk_20 0 157 (dk_at dksX4_slipLength_0 8 rfl rfl)
theorem dX4_slipLength_11 : decode cX4_slipLength 11 = .ok (.invokestatic 54, 3) := dk_184 0 54 (dk_at dksX4_slipLength_0 11 rfl rfl)
theorem dX4_slipLength_14 : decode cX4_slipLength 14 = .ok (.ifCond .eq 15, 3) := dk_153 0 15 (dk_at dksX4_slipLength_0 14 rfl rfl)
theorem dX4_slipLength_17 : decode cX4_slipLength 17 = .ok (.aload_n 0, 1) := dk_42 (dk_at dksX4_slipLength_0 17 rfl rfl)
theorem dX4_slipLength_18 : decode cX4_slipLength 18 = .ok (.getfield 9, 3) := dk_180 0 9 (dk_at dksX4_slipLength_0 18 rfl rfl)
theorem dX4_slipLength_21 : decode cX4_slipLength 21 = .ok (.bipush 17, 2) := dk_16 17 (dk_at dksX4_slipLength_0 21 rfl rfl)
theorem dX4_slipLength_23 : decode cX4_slipLength 23 = .ok (.iload_n 1, 1) := dk_27 (dk_at dksX4_slipLength_0 23 rfl rfl)
theorem dX4_slipLength_24 : decode cX4_slipLength 24 = .ok (.iadd, 1) := dk_96 (dk_at dksX4_slipLength_1 0 rfl rfl)
theorem dX4_slipLength_25 : decode cX4_slipLength 25 = .ok (.iaload, 1) := dk_46 (dk_at dksX4_slipLength_1 1 rfl rfl)
theorem dX4_slipLength_26 : decode cX4_slipLength 26 = .ok (.goto 8, 3) := dk_167 0 8 (dk_at dksX4_slipLength_1 2 rfl rfl)
theorem dX4_slipLength_29 : decode cX4_slipLength 29 = .ok (.aload_n 0, 1) := dk_42 (dk_at dksX4_slipLength_1 5 rfl rfl)
theorem dX4_slipLength_30 : decode cX4_slipLength 30 = .ok (.iconst 1, 1) := dk_4 (dk_at dksX4_slipLength_1 6 rfl rfl)
theorem dX4_slipLength_31 : decode cX4_slipLength 31 = .ok (.invokevirtual 88, 3) := dk_182 0 88 (dk_at dksX4_slipLength_1 7 rfl rfl)
theorem dX4_slipLength_34 : decode cX4_slipLength 34 = .ok (.ireturn, 1) := dk_172 (dk_at dksX4_slipLength_1 10 rfl rfl)
def dkwX4_mostOnSlips_0 : List UInt8 := [42, 3, 181, 0, 48, 42, 182, 0, 207, 42, 180, 0, 197, 172]
abbrev dktX4_mostOnSlips_0 : List UInt8 := dkwX4_mostOnSlips_0 ++ []
theorem dksX4_mostOnSlips_0 : cX4_mostOnSlips.data.toList.drop 0 = dktX4_mostOnSlips_0 := by decide +kernel
theorem dX4_mostOnSlips_0 : decode cX4_mostOnSlips 0 = .ok (.aload_n 0, 1) := dk_42 (dk_at dksX4_mostOnSlips_0 0 rfl rfl)
theorem dX4_mostOnSlips_1 : decode cX4_mostOnSlips 1 = .ok (.iconst 0, 1) := dk_3 (dk_at dksX4_mostOnSlips_0 1 rfl rfl)
theorem dX4_mostOnSlips_2 : decode cX4_mostOnSlips 2 = .ok (.putfield 48, 3) := dk_181 0 48 (dk_at dksX4_mostOnSlips_0 2 rfl rfl)
theorem dX4_mostOnSlips_5 : decode cX4_mostOnSlips 5 = .ok (.aload_n 0, 1) := dk_42 (dk_at dksX4_mostOnSlips_0 5 rfl rfl)
theorem dX4_mostOnSlips_6 : decode cX4_mostOnSlips 6 = .ok (.invokevirtual 207, 3) := dk_182 0 207 (dk_at dksX4_mostOnSlips_0 6 rfl rfl)
theorem dX4_mostOnSlips_9 : decode cX4_mostOnSlips 9 = .ok (.aload_n 0, 1) := dk_42 (dk_at dksX4_mostOnSlips_0 9 rfl rfl)
theorem dX4_mostOnSlips_10 : decode cX4_mostOnSlips 10 = .ok (.getfield 197, 3) := dk_180 0 197 (dk_at dksX4_mostOnSlips_0 10 rfl rfl)
theorem dX4_mostOnSlips_13 : decode cX4_mostOnSlips 13 = .ok (.ireturn, 1) := dk_172 (dk_at dksX4_mostOnSlips_0 13 rfl rfl)
def dkwX4_worksUses_3 : List UInt8 := [181, 0, 197, 132, 1, 1, 167, 255, 191, 177]
abbrev dktX4_worksUses_3 : List UInt8 := dkwX4_worksUses_3 ++ []
def dkwX4_worksUses_2 : List UInt8 := [180, 0, 200, 10, 97, 167, 0, 7, 42, 180, 0, 200, 181, 0, 200, 42, 42, 180, 0, 197, 28, 184, 0, 65]
abbrev dktX4_worksUses_2 : List UInt8 := dkwX4_worksUses_2 ++ dktX4_worksUses_3
def dkwX4_worksUses_1 : List UInt8 := [61, 42, 28, 42, 180, 0, 197, 164, 0, 7, 10, 167, 0, 24, 28, 42, 180, 0, 197, 160, 0, 12, 42]
abbrev dktX4_worksUses_1 : List UInt8 := dkwX4_worksUses_1 ++ dktX4_worksUses_2
def dkwX4_worksUses_0 : List UInt8 := [42, 3, 181, 0, 197, 42, 9, 181, 0, 200, 3, 60, 27, 17, 9, 97, 162, 0, 64, 42, 27, 182, 0, 204]
abbrev dktX4_worksUses_0 : List UInt8 := dkwX4_worksUses_0 ++ dktX4_worksUses_1
theorem dksX4_worksUses_0 : cX4_worksUses.data.toList.drop 0 = dktX4_worksUses_0 := by decide +kernel
theorem dksX4_worksUses_1 : cX4_worksUses.data.toList.drop 24 = dktX4_worksUses_1 := dk_seg dksX4_worksUses_0 24 rfl rfl
theorem dksX4_worksUses_2 : cX4_worksUses.data.toList.drop 47 = dktX4_worksUses_2 := dk_seg dksX4_worksUses_1 23 rfl rfl
theorem dksX4_worksUses_3 : cX4_worksUses.data.toList.drop 71 = dktX4_worksUses_3 := dk_seg dksX4_worksUses_2 24 rfl rfl
theorem dX4_worksUses_0 : decode cX4_worksUses 0 = .ok (.aload_n 0, 1) := dk_42 (dk_at dksX4_worksUses_0 0 rfl rfl)
theorem dX4_worksUses_1 : decode cX4_worksUses 1 = .ok (.iconst 0, 1) := dk_3 (dk_at dksX4_worksUses_0 1 rfl rfl)
theorem dX4_worksUses_2 : decode cX4_worksUses 2 = .ok (.putfield 197, 3) := dk_181 0 197 (dk_at dksX4_worksUses_0 2 rfl rfl)
theorem dX4_worksUses_5 : decode cX4_worksUses 5 = .ok (.aload_n 0, 1) := dk_42 (dk_at dksX4_worksUses_0 5 rfl rfl)
theorem dX4_worksUses_6 : decode cX4_worksUses 6 = .ok (.lconst 0, 1) := dk_9 (dk_at dksX4_worksUses_0 6 rfl rfl)
theorem dX4_worksUses_7 : decode cX4_worksUses 7 = .ok (.putfield 200, 3) := dk_181 0 200 (dk_at dksX4_worksUses_0 7 rfl rfl)
theorem dX4_worksUses_10 : decode cX4_worksUses 10 = .ok (.iconst 0, 1) := dk_3 (dk_at dksX4_worksUses_0 10 rfl rfl)
theorem dX4_worksUses_11 : decode cX4_worksUses 11 = .ok (.istore_n 1, 1) := dk_60 (dk_at dksX4_worksUses_0 11 rfl rfl)
theorem dX4_worksUses_12 : decode cX4_worksUses 12 = .ok (.iload_n 1, 1) := dk_27 (dk_at dksX4_worksUses_0 12 rfl rfl)
theorem dX4_worksUses_13 : decode cX4_worksUses 13 = .ok (.sipush 2401, 3) := dk_17 9 97 (dk_at dksX4_worksUses_0 13 rfl rfl)
theorem dX4_worksUses_16 : decode cX4_worksUses 16 = .ok (.if_icmp .ge 64, 3) := dk_162 0 64 (dk_at dksX4_worksUses_0 16 rfl rfl)
theorem dX4_worksUses_19 : decode cX4_worksUses 19 = .ok (.aload_n 0, 1) := dk_42 (dk_at dksX4_worksUses_0 19 rfl rfl)
theorem dX4_worksUses_20 : decode cX4_worksUses 20 = .ok (.iload_n 1, 1) := dk_27 (dk_at dksX4_worksUses_0 20 rfl rfl)
theorem dX4_worksUses_21 : decode cX4_worksUses 21 = .ok (.invokevirtual 204, 3) := dk_182 0 204 (dk_at dksX4_worksUses_0 21 rfl rfl)
theorem dX4_worksUses_24 : decode cX4_worksUses 24 = .ok (.istore_n 2, 1) := dk_61 (dk_at dksX4_worksUses_1 0 rfl rfl)
theorem dX4_worksUses_25 : decode cX4_worksUses 25 = .ok (.aload_n 0, 1) := dk_42 (dk_at dksX4_worksUses_1 1 rfl rfl)
theorem dX4_worksUses_26 : decode cX4_worksUses 26 = .ok (.iload_n 2, 1) := dk_28 (dk_at dksX4_worksUses_1 2 rfl rfl)
theorem dX4_worksUses_27 : decode cX4_worksUses 27 = .ok (.aload_n 0, 1) := dk_42 (dk_at dksX4_worksUses_1 3 rfl rfl)
theorem dX4_worksUses_28 : decode cX4_worksUses 28 = .ok (.getfield 197, 3) := dk_180 0 197 (dk_at dksX4_worksUses_1 4 rfl rfl)
theorem dX4_worksUses_31 : decode cX4_worksUses 31 = .ok (.if_icmp .le 7, 3) := dk_164 0 7 (dk_at dksX4_worksUses_1 7 rfl rfl)
theorem dX4_worksUses_34 : decode cX4_worksUses 34 = .ok (.lconst 1, 1) := dk_10 (dk_at dksX4_worksUses_1 10 rfl rfl)
theorem dX4_worksUses_35 : decode cX4_worksUses 35 = .ok (.goto 24, 3) := dk_167 0 24 (dk_at dksX4_worksUses_1 11 rfl rfl)
theorem dX4_worksUses_38 : decode cX4_worksUses 38 = .ok (.iload_n 2, 1) := dk_28 (dk_at dksX4_worksUses_1 14 rfl rfl)
theorem dX4_worksUses_39 : decode cX4_worksUses 39 = .ok (.aload_n 0, 1) := dk_42 (dk_at dksX4_worksUses_1 15 rfl rfl)
theorem dX4_worksUses_40 : decode cX4_worksUses 40 = .ok (.getfield 197, 3) := dk_180 0 197 (dk_at dksX4_worksUses_1 16 rfl rfl)
theorem dX4_worksUses_43 : decode cX4_worksUses 43 = .ok (.if_icmp .ne 12, 3) := dk_160 0 12 (dk_at dksX4_worksUses_1 19 rfl rfl)
theorem dX4_worksUses_46 : decode cX4_worksUses 46 = .ok (.aload_n 0, 1) := dk_42 (dk_at dksX4_worksUses_1 22 rfl rfl)
theorem dX4_worksUses_47 : decode cX4_worksUses 47 = .ok (.getfield 200, 3) := dk_180 0 200 (dk_at dksX4_worksUses_2 0 rfl rfl)
theorem dX4_worksUses_50 : decode cX4_worksUses 50 = .ok (.lconst 1, 1) := dk_10 (dk_at dksX4_worksUses_2 3 rfl rfl)
theorem dX4_worksUses_51 : decode cX4_worksUses 51 = .ok (.ladd, 1) := dk_97 (dk_at dksX4_worksUses_2 4 rfl rfl)
theorem dX4_worksUses_52 : decode cX4_worksUses 52 = .ok (.goto 7, 3) := dk_167 0 7 (dk_at dksX4_worksUses_2 5 rfl rfl)
theorem dX4_worksUses_55 : decode cX4_worksUses 55 = .ok (.aload_n 0, 1) := dk_42 (dk_at dksX4_worksUses_2 8 rfl rfl)
theorem dX4_worksUses_56 : decode cX4_worksUses 56 = .ok (.getfield 200, 3) := dk_180 0 200 (dk_at dksX4_worksUses_2 9 rfl rfl)
theorem dX4_worksUses_59 : decode cX4_worksUses 59 = .ok (.putfield 200, 3) := dk_181 0 200 (dk_at dksX4_worksUses_2 12 rfl rfl)
theorem dX4_worksUses_62 : decode cX4_worksUses 62 = .ok (.aload_n 0, 1) := dk_42 (dk_at dksX4_worksUses_2 15 rfl rfl)
theorem dX4_worksUses_63 : decode cX4_worksUses 63 = .ok (.aload_n 0, 1) := dk_42 (dk_at dksX4_worksUses_2 16 rfl rfl)
theorem dX4_worksUses_64 : decode cX4_worksUses 64 = .ok (.getfield 197, 3) := dk_180 0 197 (dk_at dksX4_worksUses_2 17 rfl rfl)
theorem dX4_worksUses_67 : decode cX4_worksUses 67 = .ok (.iload_n 2, 1) := dk_28 (dk_at dksX4_worksUses_2 20 rfl rfl)
theorem dX4_worksUses_68 : decode cX4_worksUses 68 = .ok (.invokestatic 65, 3) := dk_184 0 65 (dk_at dksX4_worksUses_2 21 rfl rfl)
theorem dX4_worksUses_71 : decode cX4_worksUses 71 = .ok (.putfield 197, 3) := dk_181 0 197 (dk_at dksX4_worksUses_3 0 rfl rfl)
theorem dX4_worksUses_74 : decode cX4_worksUses 74 = .ok (.iinc 1 1, 3) := dk_132 1 1 (dk_at dksX4_worksUses_3 3 rfl rfl)
theorem dX4_worksUses_77 : decode cX4_worksUses 77 = .ok (.goto (-65), 3) := dk_167 255 191 (dk_at dksX4_worksUses_3 6 rfl rfl)
theorem dX4_worksUses_80 : decode cX4_worksUses 80 = .ok (.return_, 1) := dk_177 (dk_at dksX4_worksUses_3 9 rfl rfl)
def dkwX4_useOf_5 : List UInt8 := [132, 5, 1, 167, 255, 148, 21, 4, 172]
abbrev dktX4_useOf_5 : List UInt8 := dkwX4_useOf_5 ++ []
def dkwX4_useOf_4 : List UInt8 := [29, 21, 6, 122, 4, 126, 4, 160, 0, 5, 2, 172, 29, 4, 21, 6, 120, 128, 62, 132, 4, 1]
abbrev dktX4_useOf_4 : List UInt8 := dkwX4_useOf_4 ++ dktX4_useOf_5
def dkwX4_useOf_3 : List UInt8 := [180, 0, 9, 16, 17, 21, 5, 96, 46, 163, 0, 7, 4, 167, 0, 4, 3, 54, 7, 21, 7, 153, 0, 13]
abbrev dktX4_useOf_3 : List UInt8 := dkwX4_useOf_3 ++ dktX4_useOf_4
def dkwX4_useOf_2 : List UInt8 := [182, 0, 81, 154, 0, 36, 42, 21, 6, 182, 0, 62, 5, 161, 0, 26, 42, 21, 6, 182, 0, 62, 42]
abbrev dktX4_useOf_2 : List UInt8 := dkwX4_useOf_2 ++ dktX4_useOf_3
def dkwX4_useOf_1 : List UInt8 := [16, 7, 108, 61, 21, 6, 16, 6, 162, 0, 84, 42, 21, 6, 182, 0, 84, 153, 0, 45, 42, 21, 6]
abbrev dktX4_useOf_1 : List UInt8 := dkwX4_useOf_1 ++ dktX4_useOf_2
def dkwX4_useOf_0 : List UInt8 := [27, 61, 3, 62, 3, 54, 4, 3, 54, 5, 21, 5, 7, 162, 0, 108, 28, 16, 7, 112, 54, 6, 28]
abbrev dktX4_useOf_0 : List UInt8 := dkwX4_useOf_0 ++ dktX4_useOf_1
theorem dksX4_useOf_0 : cX4_useOf.data.toList.drop 0 = dktX4_useOf_0 := by decide +kernel
theorem dksX4_useOf_1 : cX4_useOf.data.toList.drop 23 = dktX4_useOf_1 := dk_seg dksX4_useOf_0 23 rfl rfl
theorem dksX4_useOf_2 : cX4_useOf.data.toList.drop 46 = dktX4_useOf_2 := dk_seg dksX4_useOf_1 23 rfl rfl
theorem dksX4_useOf_3 : cX4_useOf.data.toList.drop 69 = dktX4_useOf_3 := dk_seg dksX4_useOf_2 23 rfl rfl
theorem dksX4_useOf_4 : cX4_useOf.data.toList.drop 93 = dktX4_useOf_4 := dk_seg dksX4_useOf_3 24 rfl rfl
theorem dksX4_useOf_5 : cX4_useOf.data.toList.drop 115 = dktX4_useOf_5 := dk_seg dksX4_useOf_4 22 rfl rfl
theorem dX4_useOf_0 : decode cX4_useOf 0 = .ok (.iload_n 1, 1) := dk_27 (dk_at dksX4_useOf_0 0 rfl rfl)
theorem dX4_useOf_1 : decode cX4_useOf 1 = .ok (.istore_n 2, 1) := dk_61 (dk_at dksX4_useOf_0 1 rfl rfl)
theorem dX4_useOf_2 : decode cX4_useOf 2 = .ok (.iconst 0, 1) := dk_3 (dk_at dksX4_useOf_0 2 rfl rfl)
theorem dX4_useOf_3 : decode cX4_useOf 3 = .ok (.istore_n 3, 1) := dk_62 (dk_at dksX4_useOf_0 3 rfl rfl)
theorem dX4_useOf_4 : decode cX4_useOf 4 = .ok (.iconst 0, 1) := dk_3 (dk_at dksX4_useOf_0 4 rfl rfl)
theorem dX4_useOf_5 : decode cX4_useOf 5 = .ok (.istore 4, 2) := dk_54 4 (dk_at dksX4_useOf_0 5 rfl rfl)
theorem dX4_useOf_7 : decode cX4_useOf 7 = .ok (.iconst 0, 1) := dk_3 (dk_at dksX4_useOf_0 7 rfl rfl)
theorem dX4_useOf_8 : decode cX4_useOf 8 = .ok (.istore 5, 2) := dk_54 5 (dk_at dksX4_useOf_0 8 rfl rfl)
theorem dX4_useOf_10 : decode cX4_useOf 10 = .ok (.iload 5, 2) := dk_21 5 (dk_at dksX4_useOf_0 10 rfl rfl)
theorem dX4_useOf_12 : decode cX4_useOf 12 = .ok (.iconst 4, 1) := dk_7 (dk_at dksX4_useOf_0 12 rfl rfl)
theorem dX4_useOf_13 : decode cX4_useOf 13 = .ok (.if_icmp .ge 108, 3) := dk_162 0 108 (dk_at dksX4_useOf_0 13 rfl rfl)
theorem dX4_useOf_16 : decode cX4_useOf 16 = .ok (.iload_n 2, 1) := dk_28 (dk_at dksX4_useOf_0 16 rfl rfl)
theorem dX4_useOf_17 : decode cX4_useOf 17 = .ok (.bipush 7, 2) := dk_16 7 (dk_at dksX4_useOf_0 17 rfl rfl)
theorem dX4_useOf_19 : decode cX4_useOf 19 = .ok (.irem, 1) := dk_112 (dk_at dksX4_useOf_0 19 rfl rfl)
theorem dX4_useOf_20 : decode cX4_useOf 20 = .ok (.istore 6, 2) := dk_54 6 (dk_at dksX4_useOf_0 20 rfl rfl)
theorem dX4_useOf_22 : decode cX4_useOf 22 = .ok (.iload_n 2, 1) := dk_28 (dk_at dksX4_useOf_0 22 rfl rfl)
theorem dX4_useOf_23 : decode cX4_useOf 23 = .ok (.bipush 7, 2) := dk_16 7 (dk_at dksX4_useOf_1 0 rfl rfl)
theorem dX4_useOf_25 : decode cX4_useOf 25 = .ok (.idiv, 1) := dk_108 (dk_at dksX4_useOf_1 2 rfl rfl)
theorem dX4_useOf_26 : decode cX4_useOf 26 = .ok (.istore_n 2, 1) := dk_61 (dk_at dksX4_useOf_1 3 rfl rfl)
theorem dX4_useOf_27 : decode cX4_useOf 27 = .ok (.iload 6, 2) := dk_21 6 (dk_at dksX4_useOf_1 4 rfl rfl)
theorem dX4_useOf_29 : decode cX4_useOf 29 = .ok (.bipush 6, 2) := dk_16 6 (dk_at dksX4_useOf_1 6 rfl rfl)
theorem dX4_useOf_31 : decode cX4_useOf 31 = .ok (.if_icmp .ge 84, 3) := dk_162 0 84 (dk_at dksX4_useOf_1 8 rfl rfl)
theorem dX4_useOf_34 : decode cX4_useOf 34 = .ok (.aload_n 0, 1) := dk_42 (dk_at dksX4_useOf_1 11 rfl rfl)
theorem dX4_useOf_35 : decode cX4_useOf 35 = .ok (.iload 6, 2) := dk_21 6 (dk_at dksX4_useOf_1 12 rfl rfl)
theorem dX4_useOf_37 : decode cX4_useOf 37 = .ok (.invokevirtual 84, 3) := dk_182 0 84 (dk_at dksX4_useOf_1 14 rfl rfl)
theorem dX4_useOf_40 : decode cX4_useOf 40 = .ok (.ifCond .eq 45, 3) := dk_153 0 45 (dk_at dksX4_useOf_1 17 rfl rfl)
theorem dX4_useOf_43 : decode cX4_useOf 43 = .ok (.aload_n 0, 1) := dk_42 (dk_at dksX4_useOf_1 20 rfl rfl)
theorem dX4_useOf_44 : decode cX4_useOf 44 = .ok (.iload 6, 2) := dk_21 6 (dk_at dksX4_useOf_1 21 rfl rfl)
theorem dX4_useOf_46 : decode cX4_useOf 46 = .ok (.invokevirtual 81, 3) := dk_182 0 81 (dk_at dksX4_useOf_2 0 rfl rfl)
theorem dX4_useOf_49 : decode cX4_useOf 49 = .ok (.ifCond .ne 36, 3) := dk_154 0 36 (dk_at dksX4_useOf_2 3 rfl rfl)
theorem dX4_useOf_52 : decode cX4_useOf 52 = .ok (.aload_n 0, 1) := dk_42 (dk_at dksX4_useOf_2 6 rfl rfl)
theorem dX4_useOf_53 : decode cX4_useOf 53 = .ok (.iload 6, 2) := dk_21 6 (dk_at dksX4_useOf_2 7 rfl rfl)
theorem dX4_useOf_55 : decode cX4_useOf 55 = .ok (.invokevirtual 62, 3) := dk_182 0 62 (dk_at dksX4_useOf_2 9 rfl rfl)
theorem dX4_useOf_58 : decode cX4_useOf 58 = .ok (.iconst 2, 1) := dk_5 (dk_at dksX4_useOf_2 12 rfl rfl)
theorem dX4_useOf_59 : decode cX4_useOf 59 = .ok (.if_icmp .lt 26, 3) := dk_161 0 26 (dk_at dksX4_useOf_2 13 rfl rfl)
theorem dX4_useOf_62 : decode cX4_useOf 62 = .ok (.aload_n 0, 1) := dk_42 (dk_at dksX4_useOf_2 16 rfl rfl)
theorem dX4_useOf_63 : decode cX4_useOf 63 = .ok (.iload 6, 2) := dk_21 6 (dk_at dksX4_useOf_2 17 rfl rfl)
theorem dX4_useOf_65 : decode cX4_useOf 65 = .ok (.invokevirtual 62, 3) := dk_182 0 62 (dk_at dksX4_useOf_2 19 rfl rfl)
theorem dX4_useOf_68 : decode cX4_useOf 68 = .ok (.aload_n 0, 1) := dk_42 (dk_at dksX4_useOf_2 22 rfl rfl)
theorem dX4_useOf_69 : decode cX4_useOf 69 = .ok (.getfield 9, 3) := dk_180 0 9 (dk_at dksX4_useOf_3 0 rfl rfl)
theorem dX4_useOf_72 : decode cX4_useOf 72 = .ok (.bipush 17, 2) := dk_16 17 (dk_at dksX4_useOf_3 3 rfl rfl)
theorem dX4_useOf_74 : decode cX4_useOf 74 = .ok (.iload 5, 2) := dk_21 5 (dk_at dksX4_useOf_3 5 rfl rfl)
theorem dX4_useOf_76 : decode cX4_useOf 76 = .ok (.iadd, 1) := dk_96 (dk_at dksX4_useOf_3 7 rfl rfl)
theorem dX4_useOf_77 : decode cX4_useOf 77 = .ok (.iaload, 1) := dk_46 (dk_at dksX4_useOf_3 8 rfl rfl)
theorem dX4_useOf_78 : decode cX4_useOf 78 = .ok (.if_icmp .gt 7, 3) := dk_163 0 7 (dk_at dksX4_useOf_3 9 rfl rfl)
theorem dX4_useOf_81 : decode cX4_useOf 81 = .ok (.iconst 1, 1) := dk_4 (dk_at dksX4_useOf_3 12 rfl rfl)
theorem dX4_useOf_82 : decode cX4_useOf 82 = .ok (.goto 4, 3) := dk_167 0 4 (dk_at dksX4_useOf_3 13 rfl rfl)
theorem dX4_useOf_85 : decode cX4_useOf 85 = .ok (.iconst 0, 1) := dk_3 (dk_at dksX4_useOf_3 16 rfl rfl)
theorem dX4_useOf_86 : decode cX4_useOf 86 = .ok (.istore 7, 2) := dk_54 7 (dk_at dksX4_useOf_3 17 rfl rfl)
theorem dX4_useOf_88 : decode cX4_useOf 88 = .ok (.iload 7, 2) := dk_21 7 (dk_at dksX4_useOf_3 19 rfl rfl)
theorem dX4_useOf_90 : decode cX4_useOf 90 = .ok (.ifCond .eq 13, 3) := dk_153 0 13 (dk_at dksX4_useOf_3 21 rfl rfl)
theorem dX4_useOf_93 : decode cX4_useOf 93 = .ok (.iload_n 3, 1) := dk_29 (dk_at dksX4_useOf_4 0 rfl rfl)
theorem dX4_useOf_94 : decode cX4_useOf 94 = .ok (.iload 6, 2) := dk_21 6 (dk_at dksX4_useOf_4 1 rfl rfl)
theorem dX4_useOf_96 : decode cX4_useOf 96 = .ok (.ishr, 1) := dk_122 (dk_at dksX4_useOf_4 3 rfl rfl)
theorem dX4_useOf_97 : decode cX4_useOf 97 = .ok (.iconst 1, 1) := dk_4 (dk_at dksX4_useOf_4 4 rfl rfl)
theorem dX4_useOf_98 : decode cX4_useOf 98 = .ok (.iand, 1) := dk_126 (dk_at dksX4_useOf_4 5 rfl rfl)
theorem dX4_useOf_99 : decode cX4_useOf 99 = .ok (.iconst 1, 1) := dk_4 (dk_at dksX4_useOf_4 6 rfl rfl)
theorem dX4_useOf_100 : decode cX4_useOf 100 = .ok (.if_icmp .ne 5, 3) := dk_160 0 5 (dk_at dksX4_useOf_4 7 rfl rfl)
theorem dX4_useOf_103 : decode cX4_useOf 103 = .ok (.iconst (-1), 1) := dk_2 (dk_at dksX4_useOf_4 10 rfl rfl)
theorem dX4_useOf_104 : decode cX4_useOf 104 = .ok (.ireturn, 1) := dk_172 (dk_at dksX4_useOf_4 11 rfl rfl)
theorem dX4_useOf_105 : decode cX4_useOf 105 = .ok (.iload_n 3, 1) := dk_29 (dk_at dksX4_useOf_4 12 rfl rfl)
theorem dX4_useOf_106 : decode cX4_useOf 106 = .ok (.iconst 1, 1) := dk_4 (dk_at dksX4_useOf_4 13 rfl rfl)
theorem dX4_useOf_107 : decode cX4_useOf 107 = .ok (.iload 6, 2) := dk_21 6 (dk_at dksX4_useOf_4 14 rfl rfl)
theorem dX4_useOf_109 : decode cX4_useOf 109 = .ok (.ishl, 1) := dk_120 (dk_at dksX4_useOf_4 16 rfl rfl)
theorem dX4_useOf_110 : decode cX4_useOf 110 = .ok (.ior, 1) := dk_128 (dk_at dksX4_useOf_4 17 rfl rfl)
theorem dX4_useOf_111 : decode cX4_useOf 111 = .ok (.istore_n 3, 1) := dk_62 (dk_at dksX4_useOf_4 18 rfl rfl)
theorem dX4_useOf_112 : decode cX4_useOf 112 = .ok (.iinc 4 1, 3) := dk_132 4 1 (dk_at dksX4_useOf_4 19 rfl rfl)
theorem dX4_useOf_115 : decode cX4_useOf 115 = .ok (.iinc 5 1, 3) := dk_132 5 1 (dk_at dksX4_useOf_5 0 rfl rfl)
theorem dX4_useOf_118 : decode cX4_useOf 118 = .ok (.goto (-108), 3) := dk_167 255 148 (dk_at dksX4_useOf_5 3 rfl rfl)
theorem dX4_useOf_121 : decode cX4_useOf 121 = .ok (.iload 4, 2) := dk_21 4 (dk_at dksX4_useOf_5 6 rfl rfl)
theorem dX4_useOf_123 : decode cX4_useOf 123 = .ok (.ireturn, 1) := dk_172 (dk_at dksX4_useOf_5 8 rfl rfl)
theorem dX4_mostOnSlipsByLengths_0 : decode cX4_mostOnSlipsByLengths 0 = .ok (.aload_n 0, 1) := by decide +kernel
theorem dX4_mostOnSlipsByLengths_1 : decode cX4_mostOnSlipsByLengths 1 = .ok (.invokevirtual 210, 3) := by decide +kernel
theorem dX4_mostOnSlipsByLengths_4 : decode cX4_mostOnSlipsByLengths 4 = .ok (.ireturn, 1) := by decide +kernel
def dkwX4_bestUses_0 : List UInt8 := [42, 3, 181, 0, 48, 42, 182, 0, 207, 42, 180, 0, 200, 136, 172]
abbrev dktX4_bestUses_0 : List UInt8 := dkwX4_bestUses_0 ++ []
theorem dksX4_bestUses_0 : cX4_bestUses.data.toList.drop 0 = dktX4_bestUses_0 := by decide +kernel
theorem dX4_bestUses_0 : decode cX4_bestUses 0 = .ok (.aload_n 0, 1) := dk_42 (dk_at dksX4_bestUses_0 0 rfl rfl)
theorem dX4_bestUses_1 : decode cX4_bestUses 1 = .ok (.iconst 0, 1) := dk_3 (dk_at dksX4_bestUses_0 1 rfl rfl)
theorem dX4_bestUses_2 : decode cX4_bestUses 2 = .ok (.putfield 48, 3) := dk_181 0 48 (dk_at dksX4_bestUses_0 2 rfl rfl)
theorem dX4_bestUses_5 : decode cX4_bestUses 5 = .ok (.aload_n 0, 1) := dk_42 (dk_at dksX4_bestUses_0 5 rfl rfl)
theorem dX4_bestUses_6 : decode cX4_bestUses 6 = .ok (.invokevirtual 207, 3) := dk_182 0 207 (dk_at dksX4_bestUses_0 6 rfl rfl)
theorem dX4_bestUses_9 : decode cX4_bestUses 9 = .ok (.aload_n 0, 1) := dk_42 (dk_at dksX4_bestUses_0 9 rfl rfl)
theorem dX4_bestUses_10 : decode cX4_bestUses 10 = .ok (.getfield 200, 3) := dk_180 0 200 (dk_at dksX4_bestUses_0 10 rfl rfl)
theorem dX4_bestUses_13 : decode cX4_bestUses 13 = .ok (.l2i, 1) := dk_136 (dk_at dksX4_bestUses_0 13 rfl rfl)
theorem dX4_bestUses_14 : decode cX4_bestUses 14 = .ok (.ireturn, 1) := dk_172 (dk_at dksX4_bestUses_0 14 rfl rfl)
def dkwX4_orderCount_0 : List UInt8 := [42, 3, 181, 0, 48, 42, 180, 0, 9, 5, 46, 172]
abbrev dktX4_orderCount_0 : List UInt8 := dkwX4_orderCount_0 ++ []
theorem dksX4_orderCount_0 : cX4_orderCount.data.toList.drop 0 = dktX4_orderCount_0 := by decide +kernel
theorem dX4_orderCount_0 : decode cX4_orderCount 0 = .ok (.aload_n 0, 1) := dk_42 (dk_at dksX4_orderCount_0 0 rfl rfl)
theorem dX4_orderCount_1 : decode cX4_orderCount 1 = .ok (.iconst 0, 1) := dk_3 (dk_at dksX4_orderCount_0 1 rfl rfl)
theorem dX4_orderCount_2 : decode cX4_orderCount 2 = .ok (.putfield 48, 3) := dk_181 0 48 (dk_at dksX4_orderCount_0 2 rfl rfl)
theorem dX4_orderCount_5 : decode cX4_orderCount 5 = .ok (.aload_n 0, 1) := dk_42 (dk_at dksX4_orderCount_0 5 rfl rfl)
theorem dX4_orderCount_6 : decode cX4_orderCount 6 = .ok (.getfield 9, 3) := dk_180 0 9 (dk_at dksX4_orderCount_0 6 rfl rfl)
theorem dX4_orderCount_9 : decode cX4_orderCount 9 = .ok (.iconst 2, 1) := dk_5 (dk_at dksX4_orderCount_0 9 rfl rfl)
theorem dX4_orderCount_10 : decode cX4_orderCount 10 = .ok (.iaload, 1) := dk_46 (dk_at dksX4_orderCount_0 10 rfl rfl)
theorem dX4_orderCount_11 : decode cX4_orderCount 11 = .ok (.ireturn, 1) := dk_172 (dk_at dksX4_orderCount_0 11 rfl rfl)
def dkwX4_orderAt_1 : List UInt8 := [180, 0, 9, 17, 0, 189, 7, 27, 104, 96, 46, 167, 0, 8, 42, 4, 182, 0, 88, 172]
abbrev dktX4_orderAt_1 : List UInt8 := dkwX4_orderAt_1 ++ []
def dkwX4_orderAt_0 : List UInt8 := [42, 3, 181, 0, 48, 27, 133, 9, 42, 180, 0, 9, 5, 46, 4, 100, 133, 184, 0, 54, 153, 0, 18, 42]
abbrev dktX4_orderAt_0 : List UInt8 := dkwX4_orderAt_0 ++ dktX4_orderAt_1
theorem dksX4_orderAt_0 : cX4_orderAt.data.toList.drop 0 = dktX4_orderAt_0 := by decide +kernel
theorem dksX4_orderAt_1 : cX4_orderAt.data.toList.drop 24 = dktX4_orderAt_1 := dk_seg dksX4_orderAt_0 24 rfl rfl
theorem dX4_orderAt_0 : decode cX4_orderAt 0 = .ok (.aload_n 0, 1) := dk_42 (dk_at dksX4_orderAt_0 0 rfl rfl)
theorem dX4_orderAt_1 : decode cX4_orderAt 1 = .ok (.iconst 0, 1) := dk_3 (dk_at dksX4_orderAt_0 1 rfl rfl)
theorem dX4_orderAt_2 : decode cX4_orderAt 2 = .ok (.putfield 48, 3) := dk_181 0 48 (dk_at dksX4_orderAt_0 2 rfl rfl)
theorem dX4_orderAt_5 : decode cX4_orderAt 5 = .ok (.iload_n 1, 1) := dk_27 (dk_at dksX4_orderAt_0 5 rfl rfl)
theorem dX4_orderAt_6 : decode cX4_orderAt 6 = .ok (.i2l, 1) := dk_133 (dk_at dksX4_orderAt_0 6 rfl rfl)
theorem dX4_orderAt_7 : decode cX4_orderAt 7 = .ok (.lconst 0, 1) := dk_9 (dk_at dksX4_orderAt_0 7 rfl rfl)
theorem dX4_orderAt_8 : decode cX4_orderAt 8 = .ok (.aload_n 0, 1) := dk_42 (dk_at dksX4_orderAt_0 8 rfl rfl)
theorem dX4_orderAt_9 : decode cX4_orderAt 9 = .ok (.getfield 9, 3) := dk_180 0 9 (dk_at dksX4_orderAt_0 9 rfl rfl)
theorem dX4_orderAt_12 : decode cX4_orderAt 12 = .ok (.iconst 2, 1) := dk_5 (dk_at dksX4_orderAt_0 12 rfl rfl)
theorem dX4_orderAt_13 : decode cX4_orderAt 13 = .ok (.iaload, 1) := dk_46 (dk_at dksX4_orderAt_0 13 rfl rfl)
theorem dX4_orderAt_14 : decode cX4_orderAt 14 = .ok (.iconst 1, 1) := dk_4 (dk_at dksX4_orderAt_0 14 rfl rfl)
theorem dX4_orderAt_15 : decode cX4_orderAt 15 = .ok (.isub, 1) := dk_100 (dk_at dksX4_orderAt_0 15 rfl rfl)
theorem dX4_orderAt_16 : decode cX4_orderAt 16 = .ok (.i2l, 1) := dk_133 (dk_at dksX4_orderAt_0 16 rfl rfl)
theorem dX4_orderAt_17 : decode cX4_orderAt 17 = .ok (.invokestatic 54, 3) := dk_184 0 54 (dk_at dksX4_orderAt_0 17 rfl rfl)
theorem dX4_orderAt_20 : decode cX4_orderAt 20 = .ok (.ifCond .eq 18, 3) := dk_153 0 18 (dk_at dksX4_orderAt_0 20 rfl rfl)
theorem dX4_orderAt_23 : decode cX4_orderAt 23 = .ok (.aload_n 0, 1) := dk_42 (dk_at dksX4_orderAt_0 23 rfl rfl)
theorem dX4_orderAt_24 : decode cX4_orderAt 24 = .ok (.getfield 9, 3) := dk_180 0 9 (dk_at dksX4_orderAt_1 0 rfl rfl)
theorem dX4_orderAt_27 : decode cX4_orderAt 27 = .ok (.sipush 189, 3) := dk_17 0 189 (dk_at dksX4_orderAt_1 3 rfl rfl)
theorem dX4_orderAt_30 : decode cX4_orderAt 30 = .ok (.iconst 4, 1) := dk_7 (dk_at dksX4_orderAt_1 6 rfl rfl)
theorem dX4_orderAt_31 : decode cX4_orderAt 31 = .ok (.iload_n 1, 1) := dk_27 (dk_at dksX4_orderAt_1 7 rfl rfl)
theorem dX4_orderAt_32 : decode cX4_orderAt 32 = .ok (.imul, 1) := dk_104 (dk_at dksX4_orderAt_1 8 rfl rfl)
theorem dX4_orderAt_33 : decode cX4_orderAt 33 = .ok (.iadd, 1) := dk_96 (dk_at dksX4_orderAt_1 9 rfl rfl)
theorem dX4_orderAt_34 : decode cX4_orderAt 34 = .ok (.iaload, 1) := dk_46 (dk_at dksX4_orderAt_1 10 rfl rfl)
theorem dX4_orderAt_35 : decode cX4_orderAt 35 = .ok (.goto 8, 3) := dk_167 0 8 (dk_at dksX4_orderAt_1 11 rfl rfl)
theorem dX4_orderAt_38 : decode cX4_orderAt 38 = .ok (.aload_n 0, 1) := dk_42 (dk_at dksX4_orderAt_1 14 rfl rfl)
theorem dX4_orderAt_39 : decode cX4_orderAt 39 = .ok (.iconst 1, 1) := dk_4 (dk_at dksX4_orderAt_1 15 rfl rfl)
theorem dX4_orderAt_40 : decode cX4_orderAt 40 = .ok (.invokevirtual 88, 3) := dk_182 0 88 (dk_at dksX4_orderAt_1 16 rfl rfl)
theorem dX4_orderAt_43 : decode cX4_orderAt 43 = .ok (.ireturn, 1) := dk_172 (dk_at dksX4_orderAt_1 19 rfl rfl)
def dkwX4_coinsFor_1 : List UInt8 := [42, 28, 182, 0, 169, 172]
abbrev dktX4_coinsFor_1 : List UInt8 := dkwX4_coinsFor_1 ++ []
def dkwX4_coinsFor_0 : List UInt8 := [42, 3, 181, 0, 48, 42, 27, 182, 0, 166, 61, 28, 2, 160, 0, 11, 42, 4, 182, 0, 88, 167, 0, 8]
abbrev dktX4_coinsFor_0 : List UInt8 := dkwX4_coinsFor_0 ++ dktX4_coinsFor_1
theorem dksX4_coinsFor_0 : cX4_coinsFor.data.toList.drop 0 = dktX4_coinsFor_0 := by decide +kernel
theorem dksX4_coinsFor_1 : cX4_coinsFor.data.toList.drop 24 = dktX4_coinsFor_1 := dk_seg dksX4_coinsFor_0 24 rfl rfl
theorem dX4_coinsFor_0 : decode cX4_coinsFor 0 = .ok (.aload_n 0, 1) := dk_42 (dk_at dksX4_coinsFor_0 0 rfl rfl)
theorem dX4_coinsFor_1 : decode cX4_coinsFor 1 = .ok (.iconst 0, 1) := dk_3 (dk_at dksX4_coinsFor_0 1 rfl rfl)
theorem dX4_coinsFor_2 : decode cX4_coinsFor 2 = .ok (.putfield 48, 3) := dk_181 0 48 (dk_at dksX4_coinsFor_0 2 rfl rfl)
theorem dX4_coinsFor_5 : decode cX4_coinsFor 5 = .ok (.aload_n 0, 1) := dk_42 (dk_at dksX4_coinsFor_0 5 rfl rfl)
theorem dX4_coinsFor_6 : decode cX4_coinsFor 6 = .ok (.iload_n 1, 1) := dk_27 (dk_at dksX4_coinsFor_0 6 rfl rfl)
theorem dX4_coinsFor_7 : decode cX4_coinsFor 7 = .ok (.invokevirtual 166, 3) := dk_182 0 166 (dk_at dksX4_coinsFor_0 7 rfl rfl)
theorem dX4_coinsFor_10 : decode cX4_coinsFor 10 = .ok (.istore_n 2, 1) := dk_61 (dk_at dksX4_coinsFor_0 10 rfl rfl)
theorem dX4_coinsFor_11 : decode cX4_coinsFor 11 = .ok (.iload_n 2, 1) := dk_28 (dk_at dksX4_coinsFor_0 11 rfl rfl)
theorem dX4_coinsFor_12 : decode cX4_coinsFor 12 = .ok (.iconst (-1), 1) := dk_2 (dk_at dksX4_coinsFor_0 12 rfl rfl)
theorem dX4_coinsFor_13 : decode cX4_coinsFor 13 = .ok (.if_icmp .ne 11, 3) := dk_160 0 11 (dk_at dksX4_coinsFor_0 13 rfl rfl)
theorem dX4_coinsFor_16 : decode cX4_coinsFor 16 = .ok (.aload_n 0, 1) := dk_42 (dk_at dksX4_coinsFor_0 16 rfl rfl)
theorem dX4_coinsFor_17 : decode cX4_coinsFor 17 = .ok (.iconst 1, 1) := dk_4 (dk_at dksX4_coinsFor_0 17 rfl rfl)
theorem dX4_coinsFor_18 : decode cX4_coinsFor 18 = .ok (.invokevirtual 88, 3) := dk_182 0 88 (dk_at dksX4_coinsFor_0 18 rfl rfl)
theorem dX4_coinsFor_21 : decode cX4_coinsFor 21 = .ok (.goto 8, 3) := dk_167 0 8 (dk_at dksX4_coinsFor_0 21 rfl rfl)
theorem dX4_coinsFor_24 : decode cX4_coinsFor 24 = .ok (.aload_n 0, 1) := dk_42 (dk_at dksX4_coinsFor_1 0 rfl rfl)
theorem dX4_coinsFor_25 : decode cX4_coinsFor 25 = .ok (.iload_n 2, 1) := dk_28 (dk_at dksX4_coinsFor_1 1 rfl rfl)
theorem dX4_coinsFor_26 : decode cX4_coinsFor 26 = .ok (.invokevirtual 169, 3) := dk_182 0 169 (dk_at dksX4_coinsFor_1 2 rfl rfl)
theorem dX4_coinsFor_29 : decode cX4_coinsFor 29 = .ok (.ireturn, 1) := dk_172 (dk_at dksX4_coinsFor_1 5 rfl rfl)
def dkwX4_bestDelivery_4 : List UInt8 := [182, 0, 169, 167, 0, 4, 3, 96, 60, 132, 2, 1, 167, 255, 159, 27, 172]
abbrev dktX4_bestDelivery_4 : List UInt8 := dkwX4_bestDelivery_4 ++ []
def dkwX4_bestDelivery_3 : List UInt8 := [167, 0, 4, 3, 96, 62, 132, 4, 1, 167, 255, 201, 27, 42, 28, 182, 0, 213, 29, 162, 0, 11, 42, 28]
abbrev dktX4_bestDelivery_3 : List UInt8 := dkwX4_bestDelivery_3 ++ dktX4_bestDelivery_4
def dkwX4_bestDelivery_2 : List UInt8 := [21, 4, 182, 0, 62, 42, 180, 0, 9, 17, 0, 189, 7, 28, 104, 96, 4, 96, 46, 160, 0, 7, 4]
abbrev dktX4_bestDelivery_2 : List UInt8 := dkwX4_bestDelivery_2 ++ dktX4_bestDelivery_3
def dkwX4_bestDelivery_1 : List UInt8 := [21, 4, 42, 180, 0, 9, 3, 46, 162, 0, 50, 29, 42, 21, 4, 182, 0, 81, 4, 160, 0, 30, 42]
abbrev dktX4_bestDelivery_1 : List UInt8 := dkwX4_bestDelivery_1 ++ dktX4_bestDelivery_2
def dkwX4_bestDelivery_0 : List UInt8 := [42, 3, 181, 0, 48, 3, 60, 3, 61, 28, 42, 180, 0, 9, 5, 46, 162, 0, 93, 3, 62, 3, 54, 4]
abbrev dktX4_bestDelivery_0 : List UInt8 := dkwX4_bestDelivery_0 ++ dktX4_bestDelivery_1
theorem dksX4_bestDelivery_0 : cX4_bestDelivery.data.toList.drop 0 = dktX4_bestDelivery_0 := by decide +kernel
theorem dksX4_bestDelivery_1 : cX4_bestDelivery.data.toList.drop 24 = dktX4_bestDelivery_1 := dk_seg dksX4_bestDelivery_0 24 rfl rfl
theorem dksX4_bestDelivery_2 : cX4_bestDelivery.data.toList.drop 47 = dktX4_bestDelivery_2 := dk_seg dksX4_bestDelivery_1 23 rfl rfl
theorem dksX4_bestDelivery_3 : cX4_bestDelivery.data.toList.drop 70 = dktX4_bestDelivery_3 := dk_seg dksX4_bestDelivery_2 23 rfl rfl
theorem dksX4_bestDelivery_4 : cX4_bestDelivery.data.toList.drop 94 = dktX4_bestDelivery_4 := dk_seg dksX4_bestDelivery_3 24 rfl rfl
theorem dX4_bestDelivery_0 : decode cX4_bestDelivery 0 = .ok (.aload_n 0, 1) := dk_42 (dk_at dksX4_bestDelivery_0 0 rfl rfl)
theorem dX4_bestDelivery_1 : decode cX4_bestDelivery 1 = .ok (.iconst 0, 1) := dk_3 (dk_at dksX4_bestDelivery_0 1 rfl rfl)
theorem dX4_bestDelivery_2 : decode cX4_bestDelivery 2 = .ok (.putfield 48, 3) := dk_181 0 48 (dk_at dksX4_bestDelivery_0 2 rfl rfl)
theorem dX4_bestDelivery_5 : decode cX4_bestDelivery 5 = .ok (.iconst 0, 1) := dk_3 (dk_at dksX4_bestDelivery_0 5 rfl rfl)
theorem dX4_bestDelivery_6 : decode cX4_bestDelivery 6 = .ok (.istore_n 1, 1) := dk_60 (dk_at dksX4_bestDelivery_0 6 rfl rfl)
theorem dX4_bestDelivery_7 : decode cX4_bestDelivery 7 = .ok (.iconst 0, 1) := dk_3 (dk_at dksX4_bestDelivery_0 7 rfl rfl)
theorem dX4_bestDelivery_8 : decode cX4_bestDelivery 8 = .ok (.istore_n 2, 1) := dk_61 (dk_at dksX4_bestDelivery_0 8 rfl rfl)
theorem dX4_bestDelivery_9 : decode cX4_bestDelivery 9 = .ok (.iload_n 2, 1) := dk_28 (dk_at dksX4_bestDelivery_0 9 rfl rfl)
theorem dX4_bestDelivery_10 : decode cX4_bestDelivery 10 = .ok (.aload_n 0, 1) := dk_42 (dk_at dksX4_bestDelivery_0 10 rfl rfl)
theorem dX4_bestDelivery_11 : decode cX4_bestDelivery 11 = .ok (.getfield 9, 3) := dk_180 0 9 (dk_at dksX4_bestDelivery_0 11 rfl rfl)
theorem dX4_bestDelivery_14 : decode cX4_bestDelivery 14 = .ok (.iconst 2, 1) := dk_5 (dk_at dksX4_bestDelivery_0 14 rfl rfl)
theorem dX4_bestDelivery_15 : decode cX4_bestDelivery 15 = .ok (.iaload, 1) := dk_46 (dk_at dksX4_bestDelivery_0 15 rfl rfl)
theorem dX4_bestDelivery_16 : decode cX4_bestDelivery 16 = .ok (.if_icmp .ge 93, 3) := dk_162 0 93 (dk_at dksX4_bestDelivery_0 16 rfl rfl)
theorem dX4_bestDelivery_19 : decode cX4_bestDelivery 19 = .ok (.iconst 0, 1) := dk_3 (dk_at dksX4_bestDelivery_0 19 rfl rfl)
theorem dX4_bestDelivery_20 : decode cX4_bestDelivery 20 = .ok (.istore_n 3, 1) := dk_62 (dk_at dksX4_bestDelivery_0 20 rfl rfl)
theorem dX4_bestDelivery_21 : decode cX4_bestDelivery 21 = .ok (.iconst 0, 1) := dk_3 (dk_at dksX4_bestDelivery_0 21 rfl rfl)
theorem dX4_bestDelivery_22 : decode cX4_bestDelivery 22 = .ok (.istore 4, 2) := dk_54 4 (dk_at dksX4_bestDelivery_0 22 rfl rfl)
theorem dX4_bestDelivery_24 : decode cX4_bestDelivery 24 = .ok (.iload 4, 2) := dk_21 4 (dk_at dksX4_bestDelivery_1 0 rfl rfl)
theorem dX4_bestDelivery_26 : decode cX4_bestDelivery 26 = .ok (.aload_n 0, 1) := dk_42 (dk_at dksX4_bestDelivery_1 2 rfl rfl)
theorem dX4_bestDelivery_27 : decode cX4_bestDelivery 27 = .ok (.getfield 9, 3) := dk_180 0 9 (dk_at dksX4_bestDelivery_1 3 rfl rfl)
theorem dX4_bestDelivery_30 : decode cX4_bestDelivery 30 = .ok (.iconst 0, 1) := dk_3 (dk_at dksX4_bestDelivery_1 6 rfl rfl)
theorem dX4_bestDelivery_31 : decode cX4_bestDelivery 31 = .ok (.iaload, 1) := dk_46 (dk_at dksX4_bestDelivery_1 7 rfl rfl)
theorem dX4_bestDelivery_32 : decode cX4_bestDelivery 32 = .ok (.if_icmp .ge 50, 3) := dk_162 0 50 (dk_at dksX4_bestDelivery_1 8 rfl rfl)
theorem dX4_bestDelivery_35 : decode cX4_bestDelivery 35 = .ok (.iload_n 3, 1) := dk_29 (dk_at dksX4_bestDelivery_1 11 rfl rfl)
theorem dX4_bestDelivery_36 : decode cX4_bestDelivery 36 = .ok (.aload_n 0, 1) := dk_42 (dk_at dksX4_bestDelivery_1 12 rfl rfl)
theorem dX4_bestDelivery_37 : decode cX4_bestDelivery 37 = .ok (.iload 4, 2) := dk_21 4 (dk_at dksX4_bestDelivery_1 13 rfl rfl)
theorem dX4_bestDelivery_39 : decode cX4_bestDelivery 39 = .ok (.invokevirtual 81, 3) := dk_182 0 81 (dk_at dksX4_bestDelivery_1 15 rfl rfl)
theorem dX4_bestDelivery_42 : decode cX4_bestDelivery 42 = .ok (.iconst 1, 1) := dk_4 (dk_at dksX4_bestDelivery_1 18 rfl rfl)
theorem dX4_bestDelivery_43 : decode cX4_bestDelivery 43 = .ok (.if_icmp .ne 30, 3) := dk_160 0 30 (dk_at dksX4_bestDelivery_1 19 rfl rfl)
theorem dX4_bestDelivery_46 : decode cX4_bestDelivery 46 = .ok (.aload_n 0, 1) := dk_42 (dk_at dksX4_bestDelivery_1 22 rfl rfl)
theorem dX4_bestDelivery_47 : decode cX4_bestDelivery 47 = .ok (.iload 4, 2) := dk_21 4 (dk_at dksX4_bestDelivery_2 0 rfl rfl)
theorem dX4_bestDelivery_49 : decode cX4_bestDelivery 49 = .ok (.invokevirtual 62, 3) := dk_182 0 62 (dk_at dksX4_bestDelivery_2 2 rfl rfl)
theorem dX4_bestDelivery_52 : decode cX4_bestDelivery 52 = .ok (.aload_n 0, 1) := dk_42 (dk_at dksX4_bestDelivery_2 5 rfl rfl)
theorem dX4_bestDelivery_53 : decode cX4_bestDelivery 53 = .ok (.getfield 9, 3) := dk_180 0 9 (dk_at dksX4_bestDelivery_2 6 rfl rfl)
theorem dX4_bestDelivery_56 : decode cX4_bestDelivery 56 = .ok (.sipush 189, 3) := dk_17 0 189 (dk_at dksX4_bestDelivery_2 9 rfl rfl)
theorem dX4_bestDelivery_59 : decode cX4_bestDelivery 59 = .ok (.iconst 4, 1) := dk_7 (dk_at dksX4_bestDelivery_2 12 rfl rfl)
theorem dX4_bestDelivery_60 : decode cX4_bestDelivery 60 = .ok (.iload_n 2, 1) := dk_28 (dk_at dksX4_bestDelivery_2 13 rfl rfl)
theorem dX4_bestDelivery_61 : decode cX4_bestDelivery 61 = .ok (.imul, 1) := dk_104 (dk_at dksX4_bestDelivery_2 14 rfl rfl)
theorem dX4_bestDelivery_62 : decode cX4_bestDelivery 62 = .ok (.iadd, 1) := dk_96 (dk_at dksX4_bestDelivery_2 15 rfl rfl)
theorem dX4_bestDelivery_63 : decode cX4_bestDelivery 63 = .ok (.iconst 1, 1) := dk_4 (dk_at dksX4_bestDelivery_2 16 rfl rfl)
theorem dX4_bestDelivery_64 : decode cX4_bestDelivery 64 = .ok (.iadd, 1) := dk_96 (dk_at dksX4_bestDelivery_2 17 rfl rfl)
theorem dX4_bestDelivery_65 : decode cX4_bestDelivery 65 = .ok (.iaload, 1) := dk_46 (dk_at dksX4_bestDelivery_2 18 rfl rfl)
theorem dX4_bestDelivery_66 : decode cX4_bestDelivery 66 = .ok (.if_icmp .ne 7, 3) := dk_160 0 7 (dk_at dksX4_bestDelivery_2 19 rfl rfl)
theorem dX4_bestDelivery_69 : decode cX4_bestDelivery 69 = .ok (.iconst 1, 1) := dk_4 (dk_at dksX4_bestDelivery_2 22 rfl rfl)
theorem dX4_bestDelivery_70 : decode cX4_bestDelivery 70 = .ok (.goto 4, 3) := dk_167 0 4 (dk_at dksX4_bestDelivery_3 0 rfl rfl)
theorem dX4_bestDelivery_73 : decode cX4_bestDelivery 73 = .ok (.iconst 0, 1) := dk_3 (dk_at dksX4_bestDelivery_3 3 rfl rfl)
theorem dX4_bestDelivery_74 : decode cX4_bestDelivery 74 = .ok (.iadd, 1) := dk_96 (dk_at dksX4_bestDelivery_3 4 rfl rfl)
theorem dX4_bestDelivery_75 : decode cX4_bestDelivery 75 = .ok (.istore_n 3, 1) := dk_62 (dk_at dksX4_bestDelivery_3 5 rfl rfl)
theorem dX4_bestDelivery_76 : decode cX4_bestDelivery 76 = .ok (.iinc 4 1, 3) := dk_132 4 1 (dk_at dksX4_bestDelivery_3 6 rfl rfl)
theorem dX4_bestDelivery_79 : decode cX4_bestDelivery 79 = .ok (.goto (-55), 3) := dk_167 255 201 (dk_at dksX4_bestDelivery_3 9 rfl rfl)
theorem dX4_bestDelivery_82 : decode cX4_bestDelivery 82 = .ok (.iload_n 1, 1) := dk_27 (dk_at dksX4_bestDelivery_3 12 rfl rfl)
theorem dX4_bestDelivery_83 : decode cX4_bestDelivery 83 = .ok (.aload_n 0, 1) := dk_42 (dk_at dksX4_bestDelivery_3 13 rfl rfl)
theorem dX4_bestDelivery_84 : decode cX4_bestDelivery 84 = .ok (.iload_n 2, 1) := dk_28 (dk_at dksX4_bestDelivery_3 14 rfl rfl)
theorem dX4_bestDelivery_85 : decode cX4_bestDelivery 85 = .ok (.invokevirtual 213, 3) := dk_182 0 213 (dk_at dksX4_bestDelivery_3 15 rfl rfl)
theorem dX4_bestDelivery_88 : decode cX4_bestDelivery 88 = .ok (.iload_n 3, 1) := dk_29 (dk_at dksX4_bestDelivery_3 18 rfl rfl)
theorem dX4_bestDelivery_89 : decode cX4_bestDelivery 89 = .ok (.if_icmp .ge 11, 3) := dk_162 0 11 (dk_at dksX4_bestDelivery_3 19 rfl rfl)
theorem dX4_bestDelivery_92 : decode cX4_bestDelivery 92 = .ok (.aload_n 0, 1) := dk_42 (dk_at dksX4_bestDelivery_3 22 rfl rfl)
theorem dX4_bestDelivery_93 : decode cX4_bestDelivery 93 = .ok (.iload_n 2, 1) := dk_28 (dk_at dksX4_bestDelivery_3 23 rfl rfl)
theorem dX4_bestDelivery_94 : decode cX4_bestDelivery 94 = .ok (.invokevirtual 169, 3) := dk_182 0 169 (dk_at dksX4_bestDelivery_4 0 rfl rfl)
theorem dX4_bestDelivery_97 : decode cX4_bestDelivery 97 = .ok (.goto 4, 3) := dk_167 0 4 (dk_at dksX4_bestDelivery_4 3 rfl rfl)
theorem dX4_bestDelivery_100 : decode cX4_bestDelivery 100 = .ok (.iconst 0, 1) := dk_3 (dk_at dksX4_bestDelivery_4 6 rfl rfl)
theorem dX4_bestDelivery_101 : decode cX4_bestDelivery 101 = .ok (.iadd, 1) := dk_96 (dk_at dksX4_bestDelivery_4 7 rfl rfl)
theorem dX4_bestDelivery_102 : decode cX4_bestDelivery 102 = .ok (.istore_n 1, 1) := dk_60 (dk_at dksX4_bestDelivery_4 8 rfl rfl)
theorem dX4_bestDelivery_103 : decode cX4_bestDelivery 103 = .ok (.iinc 2 1, 3) := dk_132 2 1 (dk_at dksX4_bestDelivery_4 9 rfl rfl)
theorem dX4_bestDelivery_106 : decode cX4_bestDelivery 106 = .ok (.goto (-97), 3) := dk_167 255 159 (dk_at dksX4_bestDelivery_4 12 rfl rfl)
theorem dX4_bestDelivery_109 : decode cX4_bestDelivery 109 = .ok (.iload_n 1, 1) := dk_27 (dk_at dksX4_bestDelivery_4 15 rfl rfl)
theorem dX4_bestDelivery_110 : decode cX4_bestDelivery 110 = .ok (.ireturn, 1) := dk_172 (dk_at dksX4_bestDelivery_4 16 rfl rfl)
def dkwX4_before_4 : List UInt8 := [167, 0, 4, 3, 96, 61, 132, 3, 1, 167, 255, 161, 28, 172]
abbrev dktX4_before_4 : List UInt8 := dkwX4_before_4 ++ []
def dkwX4_before_3 : List UInt8 := [163, 0, 21, 42, 29, 182, 0, 169, 42, 27, 182, 0, 169, 160, 0, 12, 29, 27, 162, 0, 7, 4]
abbrev dktX4_before_3 : List UInt8 := dkwX4_before_3 ++ dktX4_before_4
def dkwX4_before_2 : List UInt8 := [167, 0, 4, 3, 54, 4, 28, 21, 4, 153, 0, 38, 42, 29, 182, 0, 169, 42, 27, 182, 0, 169]
abbrev dktX4_before_2 : List UInt8 := dkwX4_before_2 ++ dktX4_before_3
def dkwX4_before_1 : List UInt8 := [96, 4, 96, 46, 42, 180, 0, 9, 17, 0, 189, 7, 27, 104, 96, 4, 96, 46, 160, 0, 7, 4]
abbrev dktX4_before_1 : List UInt8 := dkwX4_before_1 ++ dktX4_before_2
def dkwX4_before_0 : List UInt8 := [3, 61, 3, 62, 29, 42, 180, 0, 9, 5, 46, 162, 0, 91, 42, 180, 0, 9, 17, 0, 189, 7, 29, 104]
abbrev dktX4_before_0 : List UInt8 := dkwX4_before_0 ++ dktX4_before_1
theorem dksX4_before_0 : cX4_before.data.toList.drop 0 = dktX4_before_0 := by decide +kernel
theorem dksX4_before_1 : cX4_before.data.toList.drop 24 = dktX4_before_1 := dk_seg dksX4_before_0 24 rfl rfl
theorem dksX4_before_2 : cX4_before.data.toList.drop 46 = dktX4_before_2 := dk_seg dksX4_before_1 22 rfl rfl
theorem dksX4_before_3 : cX4_before.data.toList.drop 68 = dktX4_before_3 := dk_seg dksX4_before_2 22 rfl rfl
theorem dksX4_before_4 : cX4_before.data.toList.drop 90 = dktX4_before_4 := dk_seg dksX4_before_3 22 rfl rfl
theorem dX4_before_0 : decode cX4_before 0 = .ok (.iconst 0, 1) := dk_3 (dk_at dksX4_before_0 0 rfl rfl)
theorem dX4_before_1 : decode cX4_before 1 = .ok (.istore_n 2, 1) := dk_61 (dk_at dksX4_before_0 1 rfl rfl)
theorem dX4_before_2 : decode cX4_before 2 = .ok (.iconst 0, 1) := dk_3 (dk_at dksX4_before_0 2 rfl rfl)
theorem dX4_before_3 : decode cX4_before 3 = .ok (.istore_n 3, 1) := dk_62 (dk_at dksX4_before_0 3 rfl rfl)
theorem dX4_before_4 : decode cX4_before 4 = .ok (.iload_n 3, 1) := dk_29 (dk_at dksX4_before_0 4 rfl rfl)
theorem dX4_before_5 : decode cX4_before 5 = .ok (.aload_n 0, 1) := dk_42 (dk_at dksX4_before_0 5 rfl rfl)
theorem dX4_before_6 : decode cX4_before 6 = .ok (.getfield 9, 3) := dk_180 0 9 (dk_at dksX4_before_0 6 rfl rfl)
theorem dX4_before_9 : decode cX4_before 9 = .ok (.iconst 2, 1) := dk_5 (dk_at dksX4_before_0 9 rfl rfl)
theorem dX4_before_10 : decode cX4_before 10 = .ok (.iaload, 1) := dk_46 (dk_at dksX4_before_0 10 rfl rfl)
theorem dX4_before_11 : decode cX4_before 11 = .ok (.if_icmp .ge 91, 3) := dk_162 0 91 (dk_at dksX4_before_0 11 rfl rfl)
theorem dX4_before_14 : decode cX4_before 14 = .ok (.aload_n 0, 1) := dk_42 (dk_at dksX4_before_0 14 rfl rfl)
theorem dX4_before_15 : decode cX4_before 15 = .ok (.getfield 9, 3) := dk_180 0 9 (dk_at dksX4_before_0 15 rfl rfl)
theorem dX4_before_18 : decode cX4_before 18 = .ok (.sipush 189, 3) := dk_17 0 189 (dk_at dksX4_before_0 18 rfl rfl)
theorem dX4_before_21 : decode cX4_before 21 = .ok (.iconst 4, 1) := dk_7 (dk_at dksX4_before_0 21 rfl rfl)
theorem dX4_before_22 : decode cX4_before 22 = .ok (.iload_n 3, 1) := dk_29 (dk_at dksX4_before_0 22 rfl rfl)
theorem dX4_before_23 : decode cX4_before 23 = .ok (.imul, 1) := dk_104 (dk_at dksX4_before_0 23 rfl rfl)
theorem dX4_before_24 : decode cX4_before 24 = .ok (.iadd, 1) := dk_96 (dk_at dksX4_before_1 0 rfl rfl)
theorem dX4_before_25 : decode cX4_before 25 = .ok (.iconst 1, 1) := dk_4 (dk_at dksX4_before_1 1 rfl rfl)
theorem dX4_before_26 : decode cX4_before 26 = .ok (.iadd, 1) := dk_96 (dk_at dksX4_before_1 2 rfl rfl)
theorem dX4_before_27 : decode cX4_before 27 = .ok (.iaload, 1) := dk_46 (dk_at dksX4_before_1 3 rfl rfl)
theorem dX4_before_28 : decode cX4_before 28 = .ok (.aload_n 0, 1) := dk_42 (dk_at dksX4_before_1 4 rfl rfl)
theorem dX4_before_29 : decode cX4_before 29 = .ok (.getfield 9, 3) := dk_180 0 9 (dk_at dksX4_before_1 5 rfl rfl)
theorem dX4_before_32 : decode cX4_before 32 = .ok (.sipush 189, 3) := dk_17 0 189 (dk_at dksX4_before_1 8 rfl rfl)
theorem dX4_before_35 : decode cX4_before 35 = .ok (.iconst 4, 1) := dk_7 (dk_at dksX4_before_1 11 rfl rfl)
theorem dX4_before_36 : decode cX4_before 36 = .ok (.iload_n 1, 1) := dk_27 (dk_at dksX4_before_1 12 rfl rfl)
theorem dX4_before_37 : decode cX4_before 37 = .ok (.imul, 1) := dk_104 (dk_at dksX4_before_1 13 rfl rfl)
theorem dX4_before_38 : decode cX4_before 38 = .ok (.iadd, 1) := dk_96 (dk_at dksX4_before_1 14 rfl rfl)
theorem dX4_before_39 : decode cX4_before 39 = .ok (.iconst 1, 1) := dk_4 (dk_at dksX4_before_1 15 rfl rfl)
theorem dX4_before_40 : decode cX4_before 40 = .ok (.iadd, 1) := dk_96 (dk_at dksX4_before_1 16 rfl rfl)
theorem dX4_before_41 : decode cX4_before 41 = .ok (.iaload, 1) := dk_46 (dk_at dksX4_before_1 17 rfl rfl)
theorem dX4_before_42 : decode cX4_before 42 = .ok (.if_icmp .ne 7, 3) := dk_160 0 7 (dk_at dksX4_before_1 18 rfl rfl)
theorem dX4_before_45 : decode cX4_before 45 = .ok (.iconst 1, 1) := dk_4 (dk_at dksX4_before_1 21 rfl rfl)
theorem dX4_before_46 : decode cX4_before 46 = .ok (.goto 4, 3) := dk_167 0 4 (dk_at dksX4_before_2 0 rfl rfl)
theorem dX4_before_49 : decode cX4_before 49 = .ok (.iconst 0, 1) := dk_3 (dk_at dksX4_before_2 3 rfl rfl)
theorem dX4_before_50 : decode cX4_before 50 = .ok (.istore 4, 2) := dk_54 4 (dk_at dksX4_before_2 4 rfl rfl)
theorem dX4_before_52 : decode cX4_before 52 = .ok (.iload_n 2, 1) := dk_28 (dk_at dksX4_before_2 6 rfl rfl)
theorem dX4_before_53 : decode cX4_before 53 = .ok (.iload 4, 2) := dk_21 4 (dk_at dksX4_before_2 7 rfl rfl)
theorem dX4_before_55 : decode cX4_before 55 = .ok (.ifCond .eq 38, 3) := dk_153 0 38 (dk_at dksX4_before_2 9 rfl rfl)
theorem dX4_before_58 : decode cX4_before 58 = .ok (.aload_n 0, 1) := dk_42 (dk_at dksX4_before_2 12 rfl rfl)
theorem dX4_before_59 : decode cX4_before 59 = .ok (.iload_n 3, 1) := dk_29 (dk_at dksX4_before_2 13 rfl rfl)
theorem dX4_before_60 : decode cX4_before 60 = .ok (.invokevirtual 169, 3) := dk_182 0 169 (dk_at dksX4_before_2 14 rfl rfl)
theorem dX4_before_63 : decode cX4_before 63 = .ok (.aload_n 0, 1) := dk_42 (dk_at dksX4_before_2 17 rfl rfl)
theorem dX4_before_64 : decode cX4_before 64 = .ok (.iload_n 1, 1) := dk_27 (dk_at dksX4_before_2 18 rfl rfl)
theorem dX4_before_65 : decode cX4_before 65 = .ok (.invokevirtual 169, 3) := dk_182 0 169 (dk_at dksX4_before_2 19 rfl rfl)
theorem dX4_before_68 : decode cX4_before 68 = .ok (.if_icmp .gt 21, 3) := dk_163 0 21 (dk_at dksX4_before_3 0 rfl rfl)
theorem dX4_before_71 : decode cX4_before 71 = .ok (.aload_n 0, 1) := dk_42 (dk_at dksX4_before_3 3 rfl rfl)
theorem dX4_before_72 : decode cX4_before 72 = .ok (.iload_n 3, 1) := dk_29 (dk_at dksX4_before_3 4 rfl rfl)
theorem dX4_before_73 : decode cX4_before 73 = .ok (.invokevirtual 169, 3) := dk_182 0 169 (dk_at dksX4_before_3 5 rfl rfl)
theorem dX4_before_76 : decode cX4_before 76 = .ok (.aload_n 0, 1) := dk_42 (dk_at dksX4_before_3 8 rfl rfl)
theorem dX4_before_77 : decode cX4_before 77 = .ok (.iload_n 1, 1) := dk_27 (dk_at dksX4_before_3 9 rfl rfl)
theorem dX4_before_78 : decode cX4_before 78 = .ok (.invokevirtual 169, 3) := dk_182 0 169 (dk_at dksX4_before_3 10 rfl rfl)
theorem dX4_before_81 : decode cX4_before 81 = .ok (.if_icmp .ne 12, 3) := dk_160 0 12 (dk_at dksX4_before_3 13 rfl rfl)
theorem dX4_before_84 : decode cX4_before 84 = .ok (.iload_n 3, 1) := dk_29 (dk_at dksX4_before_3 16 rfl rfl)
theorem dX4_before_85 : decode cX4_before 85 = .ok (.iload_n 1, 1) := dk_27 (dk_at dksX4_before_3 17 rfl rfl)
theorem dX4_before_86 : decode cX4_before 86 = .ok (.if_icmp .ge 7, 3) := dk_162 0 7 (dk_at dksX4_before_3 18 rfl rfl)
theorem dX4_before_89 : decode cX4_before 89 = .ok (.iconst 1, 1) := dk_4 (dk_at dksX4_before_3 21 rfl rfl)
theorem dX4_before_90 : decode cX4_before 90 = .ok (.goto 4, 3) := dk_167 0 4 (dk_at dksX4_before_4 0 rfl rfl)
theorem dX4_before_93 : decode cX4_before 93 = .ok (.iconst 0, 1) := dk_3 (dk_at dksX4_before_4 3 rfl rfl)
theorem dX4_before_94 : decode cX4_before 94 = .ok (.iadd, 1) := dk_96 (dk_at dksX4_before_4 4 rfl rfl)
theorem dX4_before_95 : decode cX4_before 95 = .ok (.istore_n 2, 1) := dk_61 (dk_at dksX4_before_4 5 rfl rfl)
theorem dX4_before_96 : decode cX4_before 96 = .ok (.iinc 3 1, 3) := dk_132 3 1 (dk_at dksX4_before_4 6 rfl rfl)
theorem dX4_before_99 : decode cX4_before 99 = .ok (.goto (-95), 3) := dk_167 255 161 (dk_at dksX4_before_4 9 rfl rfl)
theorem dX4_before_102 : decode cX4_before 102 = .ok (.iload_n 2, 1) := dk_28 (dk_at dksX4_before_4 12 rfl rfl)
theorem dX4_before_103 : decode cX4_before 103 = .ok (.ireturn, 1) := dk_172 (dk_at dksX4_before_4 13 rfl rfl)
def dkwX4_paidCoins_0 : List UInt8 := [42, 3, 181, 0, 48, 42, 180, 0, 9, 7, 46, 133, 173]
abbrev dktX4_paidCoins_0 : List UInt8 := dkwX4_paidCoins_0 ++ []
theorem dksX4_paidCoins_0 : cX4_paidCoins.data.toList.drop 0 = dktX4_paidCoins_0 := by decide +kernel
theorem dX4_paidCoins_0 : decode cX4_paidCoins 0 = .ok (.aload_n 0, 1) := dk_42 (dk_at dksX4_paidCoins_0 0 rfl rfl)
theorem dX4_paidCoins_1 : decode cX4_paidCoins 1 = .ok (.iconst 0, 1) := dk_3 (dk_at dksX4_paidCoins_0 1 rfl rfl)
theorem dX4_paidCoins_2 : decode cX4_paidCoins 2 = .ok (.putfield 48, 3) := dk_181 0 48 (dk_at dksX4_paidCoins_0 2 rfl rfl)
theorem dX4_paidCoins_5 : decode cX4_paidCoins 5 = .ok (.aload_n 0, 1) := dk_42 (dk_at dksX4_paidCoins_0 5 rfl rfl)
theorem dX4_paidCoins_6 : decode cX4_paidCoins 6 = .ok (.getfield 9, 3) := dk_180 0 9 (dk_at dksX4_paidCoins_0 6 rfl rfl)
theorem dX4_paidCoins_9 : decode cX4_paidCoins 9 = .ok (.iconst 4, 1) := dk_7 (dk_at dksX4_paidCoins_0 9 rfl rfl)
theorem dX4_paidCoins_10 : decode cX4_paidCoins 10 = .ok (.iaload, 1) := dk_46 (dk_at dksX4_paidCoins_0 10 rfl rfl)
theorem dX4_paidCoins_11 : decode cX4_paidCoins 11 = .ok (.i2l, 1) := dk_133 (dk_at dksX4_paidCoins_0 11 rfl rfl)
theorem dX4_paidCoins_12 : decode cX4_paidCoins 12 = .ok (.lreturn, 1) := dk_173 (dk_at dksX4_paidCoins_0 12 rfl rfl)
def dkwX4_hullsIn_2 : List UInt8 := [167, 0, 4, 3, 96, 61, 132, 3, 1, 167, 255, 226, 28, 172]
abbrev dktX4_hullsIn_2 : List UInt8 := dkwX4_hullsIn_2 ++ []
def dkwX4_hullsIn_1 : List UInt8 := [61, 3, 62, 29, 42, 180, 0, 9, 3, 46, 162, 0, 26, 28, 42, 29, 182, 0, 81, 27, 160, 0, 7, 4]
abbrev dktX4_hullsIn_1 : List UInt8 := dkwX4_hullsIn_1 ++ dktX4_hullsIn_2
def dkwX4_hullsIn_0 : List UInt8 := [42, 3, 181, 0, 48, 27, 133, 9, 20, 0, 157, 184, 0, 54, 154, 0, 9, 42, 4, 182, 0, 88, 172, 3]
abbrev dktX4_hullsIn_0 : List UInt8 := dkwX4_hullsIn_0 ++ dktX4_hullsIn_1
theorem dksX4_hullsIn_0 : cX4_hullsIn.data.toList.drop 0 = dktX4_hullsIn_0 := by decide +kernel
theorem dksX4_hullsIn_1 : cX4_hullsIn.data.toList.drop 24 = dktX4_hullsIn_1 := dk_seg dksX4_hullsIn_0 24 rfl rfl
theorem dksX4_hullsIn_2 : cX4_hullsIn.data.toList.drop 48 = dktX4_hullsIn_2 := dk_seg dksX4_hullsIn_1 24 rfl rfl
theorem dX4_hullsIn_0 : decode cX4_hullsIn 0 = .ok (.aload_n 0, 1) := dk_42 (dk_at dksX4_hullsIn_0 0 rfl rfl)
theorem dX4_hullsIn_1 : decode cX4_hullsIn 1 = .ok (.iconst 0, 1) := dk_3 (dk_at dksX4_hullsIn_0 1 rfl rfl)
theorem dX4_hullsIn_2 : decode cX4_hullsIn 2 = .ok (.putfield 48, 3) := dk_181 0 48 (dk_at dksX4_hullsIn_0 2 rfl rfl)
theorem dX4_hullsIn_5 : decode cX4_hullsIn 5 = .ok (.iload_n 1, 1) := dk_27 (dk_at dksX4_hullsIn_0 5 rfl rfl)
theorem dX4_hullsIn_6 : decode cX4_hullsIn 6 = .ok (.i2l, 1) := dk_133 (dk_at dksX4_hullsIn_0 6 rfl rfl)
theorem dX4_hullsIn_7 : decode cX4_hullsIn 7 = .ok (.lconst 0, 1) := dk_9 (dk_at dksX4_hullsIn_0 7 rfl rfl)
theorem dX4_hullsIn_8 : decode cX4_hullsIn 8 = .ok (.ldc2_w 157, 3) := dk_20 0 157 (dk_at dksX4_hullsIn_0 8 rfl rfl)
theorem dX4_hullsIn_11 : decode cX4_hullsIn 11 = .ok (.invokestatic 54, 3) := dk_184 0 54 (dk_at dksX4_hullsIn_0 11 rfl rfl)
theorem dX4_hullsIn_14 : decode cX4_hullsIn 14 = .ok (.ifCond .ne 9, 3) := dk_154 0 9 (dk_at dksX4_hullsIn_0 14 rfl rfl)
theorem dX4_hullsIn_17 : decode cX4_hullsIn 17 = .ok (.aload_n 0, 1) := dk_42 (dk_at dksX4_hullsIn_0 17 rfl rfl)
theorem dX4_hullsIn_18 : decode cX4_hullsIn 18 = .ok (.iconst 1, 1) := dk_4 (dk_at dksX4_hullsIn_0 18 rfl rfl)
theorem dX4_hullsIn_19 : decode cX4_hullsIn 19 = .ok (.invokevirtual 88, 3) := dk_182 0 88 (dk_at dksX4_hullsIn_0 19 rfl rfl)
theorem dX4_hullsIn_22 : decode cX4_hullsIn 22 = .ok (.ireturn, 1) := dk_172 (dk_at dksX4_hullsIn_0 22 rfl rfl)
theorem dX4_hullsIn_23 : decode cX4_hullsIn 23 = .ok (.iconst 0, 1) := dk_3 (dk_at dksX4_hullsIn_0 23 rfl rfl)
theorem dX4_hullsIn_24 : decode cX4_hullsIn 24 = .ok (.istore_n 2, 1) := dk_61 (dk_at dksX4_hullsIn_1 0 rfl rfl)
theorem dX4_hullsIn_25 : decode cX4_hullsIn 25 = .ok (.iconst 0, 1) := dk_3 (dk_at dksX4_hullsIn_1 1 rfl rfl)
theorem dX4_hullsIn_26 : decode cX4_hullsIn 26 = .ok (.istore_n 3, 1) := dk_62 (dk_at dksX4_hullsIn_1 2 rfl rfl)
theorem dX4_hullsIn_27 : decode cX4_hullsIn 27 = .ok (.iload_n 3, 1) := dk_29 (dk_at dksX4_hullsIn_1 3 rfl rfl)
theorem dX4_hullsIn_28 : decode cX4_hullsIn 28 = .ok (.aload_n 0, 1) := dk_42 (dk_at dksX4_hullsIn_1 4 rfl rfl)
theorem dX4_hullsIn_29 : decode cX4_hullsIn 29 = .ok (.getfield 9, 3) := dk_180 0 9 (dk_at dksX4_hullsIn_1 5 rfl rfl)
theorem dX4_hullsIn_32 : decode cX4_hullsIn 32 = .ok (.iconst 0, 1) := dk_3 (dk_at dksX4_hullsIn_1 8 rfl rfl)
theorem dX4_hullsIn_33 : decode cX4_hullsIn 33 = .ok (.iaload, 1) := dk_46 (dk_at dksX4_hullsIn_1 9 rfl rfl)
theorem dX4_hullsIn_34 : decode cX4_hullsIn 34 = .ok (.if_icmp .ge 26, 3) := dk_162 0 26 (dk_at dksX4_hullsIn_1 10 rfl rfl)
theorem dX4_hullsIn_37 : decode cX4_hullsIn 37 = .ok (.iload_n 2, 1) := dk_28 (dk_at dksX4_hullsIn_1 13 rfl rfl)
theorem dX4_hullsIn_38 : decode cX4_hullsIn 38 = .ok (.aload_n 0, 1) := dk_42 (dk_at dksX4_hullsIn_1 14 rfl rfl)
theorem dX4_hullsIn_39 : decode cX4_hullsIn 39 = .ok (.iload_n 3, 1) := dk_29 (dk_at dksX4_hullsIn_1 15 rfl rfl)
theorem dX4_hullsIn_40 : decode cX4_hullsIn 40 = .ok (.invokevirtual 81, 3) := dk_182 0 81 (dk_at dksX4_hullsIn_1 16 rfl rfl)
theorem dX4_hullsIn_43 : decode cX4_hullsIn 43 = .ok (.iload_n 1, 1) := dk_27 (dk_at dksX4_hullsIn_1 19 rfl rfl)
theorem dX4_hullsIn_44 : decode cX4_hullsIn 44 = .ok (.if_icmp .ne 7, 3) := dk_160 0 7 (dk_at dksX4_hullsIn_1 20 rfl rfl)
theorem dX4_hullsIn_47 : decode cX4_hullsIn 47 = .ok (.iconst 1, 1) := dk_4 (dk_at dksX4_hullsIn_1 23 rfl rfl)
theorem dX4_hullsIn_48 : decode cX4_hullsIn 48 = .ok (.goto 4, 3) := dk_167 0 4 (dk_at dksX4_hullsIn_2 0 rfl rfl)
theorem dX4_hullsIn_51 : decode cX4_hullsIn 51 = .ok (.iconst 0, 1) := dk_3 (dk_at dksX4_hullsIn_2 3 rfl rfl)
theorem dX4_hullsIn_52 : decode cX4_hullsIn 52 = .ok (.iadd, 1) := dk_96 (dk_at dksX4_hullsIn_2 4 rfl rfl)
theorem dX4_hullsIn_53 : decode cX4_hullsIn 53 = .ok (.istore_n 2, 1) := dk_61 (dk_at dksX4_hullsIn_2 5 rfl rfl)
theorem dX4_hullsIn_54 : decode cX4_hullsIn 54 = .ok (.iinc 3 1, 3) := dk_132 3 1 (dk_at dksX4_hullsIn_2 6 rfl rfl)
theorem dX4_hullsIn_57 : decode cX4_hullsIn 57 = .ok (.goto (-30), 3) := dk_167 255 226 (dk_at dksX4_hullsIn_2 9 rfl rfl)
theorem dX4_hullsIn_60 : decode cX4_hullsIn 60 = .ok (.iload_n 2, 1) := dk_28 (dk_at dksX4_hullsIn_2 12 rfl rfl)
theorem dX4_hullsIn_61 : decode cX4_hullsIn 61 = .ok (.ireturn, 1) := dk_172 (dk_at dksX4_hullsIn_2 13 rfl rfl)
def dkwX4_refusalReason_1 : List UInt8 := [172]
abbrev dktX4_refusalReason_1 : List UInt8 := dkwX4_refusalReason_1 ++ []
def dkwX4_refusalReason_0 : List UInt8 := [42, 3, 181, 0, 48, 42, 180, 0, 126, 154, 0, 11, 42, 4, 182, 0, 88, 167, 0, 7, 42, 180, 0, 126]
abbrev dktX4_refusalReason_0 : List UInt8 := dkwX4_refusalReason_0 ++ dktX4_refusalReason_1
theorem dksX4_refusalReason_0 : cX4_refusalReason.data.toList.drop 0 = dktX4_refusalReason_0 := by decide +kernel
theorem dksX4_refusalReason_1 : cX4_refusalReason.data.toList.drop 24 = dktX4_refusalReason_1 := dk_seg dksX4_refusalReason_0 24 rfl rfl
theorem dX4_refusalReason_0 : decode cX4_refusalReason 0 = .ok (.aload_n 0, 1) := dk_42 (dk_at dksX4_refusalReason_0 0 rfl rfl)
theorem dX4_refusalReason_1 : decode cX4_refusalReason 1 = .ok (.iconst 0, 1) := dk_3 (dk_at dksX4_refusalReason_0 1 rfl rfl)
theorem dX4_refusalReason_2 : decode cX4_refusalReason 2 = .ok (.putfield 48, 3) := dk_181 0 48 (dk_at dksX4_refusalReason_0 2 rfl rfl)
theorem dX4_refusalReason_5 : decode cX4_refusalReason 5 = .ok (.aload_n 0, 1) := dk_42 (dk_at dksX4_refusalReason_0 5 rfl rfl)
theorem dX4_refusalReason_6 : decode cX4_refusalReason 6 = .ok (.getfield 126, 3) := dk_180 0 126 (dk_at dksX4_refusalReason_0 6 rfl rfl)
theorem dX4_refusalReason_9 : decode cX4_refusalReason 9 = .ok (.ifCond .ne 11, 3) := dk_154 0 11 (dk_at dksX4_refusalReason_0 9 rfl rfl)
theorem dX4_refusalReason_12 : decode cX4_refusalReason 12 = .ok (.aload_n 0, 1) := dk_42 (dk_at dksX4_refusalReason_0 12 rfl rfl)
theorem dX4_refusalReason_13 : decode cX4_refusalReason 13 = .ok (.iconst 1, 1) := dk_4 (dk_at dksX4_refusalReason_0 13 rfl rfl)
theorem dX4_refusalReason_14 : decode cX4_refusalReason 14 = .ok (.invokevirtual 88, 3) := dk_182 0 88 (dk_at dksX4_refusalReason_0 14 rfl rfl)
theorem dX4_refusalReason_17 : decode cX4_refusalReason 17 = .ok (.goto 7, 3) := dk_167 0 7 (dk_at dksX4_refusalReason_0 17 rfl rfl)
theorem dX4_refusalReason_20 : decode cX4_refusalReason 20 = .ok (.aload_n 0, 1) := dk_42 (dk_at dksX4_refusalReason_0 20 rfl rfl)
theorem dX4_refusalReason_21 : decode cX4_refusalReason 21 = .ok (.getfield 126, 3) := dk_180 0 126 (dk_at dksX4_refusalReason_0 21 rfl rfl)
theorem dX4_refusalReason_24 : decode cX4_refusalReason 24 = .ok (.ireturn, 1) := dk_172 (dk_at dksX4_refusalReason_1 0 rfl rfl)
def dkwX4_meanWeight_2 : List UInt8 := [167, 255, 235, 27, 135, 42, 180, 0, 9, 3, 46, 135, 111, 175]
abbrev dktX4_meanWeight_2 : List UInt8 := dkwX4_meanWeight_2 ++ []
def dkwX4_meanWeight_1 : List UInt8 := [3, 61, 28, 42, 180, 0, 9, 3, 46, 162, 0, 17, 27, 42, 28, 182, 0, 117, 96, 60, 132, 2, 1]
abbrev dktX4_meanWeight_1 : List UInt8 := dkwX4_meanWeight_1 ++ dktX4_meanWeight_2
def dkwX4_meanWeight_0 : List UInt8 := [42, 3, 181, 0, 48, 42, 180, 0, 9, 3, 46, 154, 0, 11, 42, 4, 182, 0, 88, 87, 14, 175, 3, 60]
abbrev dktX4_meanWeight_0 : List UInt8 := dkwX4_meanWeight_0 ++ dktX4_meanWeight_1
theorem dksX4_meanWeight_0 : cX4_meanWeight.data.toList.drop 0 = dktX4_meanWeight_0 := by decide +kernel
theorem dksX4_meanWeight_1 : cX4_meanWeight.data.toList.drop 24 = dktX4_meanWeight_1 := dk_seg dksX4_meanWeight_0 24 rfl rfl
theorem dksX4_meanWeight_2 : cX4_meanWeight.data.toList.drop 47 = dktX4_meanWeight_2 := dk_seg dksX4_meanWeight_1 23 rfl rfl
theorem dX4_meanWeight_0 : decode cX4_meanWeight 0 = .ok (.aload_n 0, 1) := dk_42 (dk_at dksX4_meanWeight_0 0 rfl rfl)
theorem dX4_meanWeight_1 : decode cX4_meanWeight 1 = .ok (.iconst 0, 1) := dk_3 (dk_at dksX4_meanWeight_0 1 rfl rfl)
theorem dX4_meanWeight_2 : decode cX4_meanWeight 2 = .ok (.putfield 48, 3) := dk_181 0 48 (dk_at dksX4_meanWeight_0 2 rfl rfl)
theorem dX4_meanWeight_5 : decode cX4_meanWeight 5 = .ok (.aload_n 0, 1) := dk_42 (dk_at dksX4_meanWeight_0 5 rfl rfl)
theorem dX4_meanWeight_6 : decode cX4_meanWeight 6 = .ok (.getfield 9, 3) := dk_180 0 9 (dk_at dksX4_meanWeight_0 6 rfl rfl)
theorem dX4_meanWeight_9 : decode cX4_meanWeight 9 = .ok (.iconst 0, 1) := dk_3 (dk_at dksX4_meanWeight_0 9 rfl rfl)
theorem dX4_meanWeight_10 : decode cX4_meanWeight 10 = .ok (.iaload, 1) := dk_46 (dk_at dksX4_meanWeight_0 10 rfl rfl)
theorem dX4_meanWeight_11 : decode cX4_meanWeight 11 = .ok (.ifCond .ne 11, 3) := dk_154 0 11 (dk_at dksX4_meanWeight_0 11 rfl rfl)
theorem dX4_meanWeight_14 : decode cX4_meanWeight 14 = .ok (.aload_n 0, 1) := dk_42 (dk_at dksX4_meanWeight_0 14 rfl rfl)
theorem dX4_meanWeight_15 : decode cX4_meanWeight 15 = .ok (.iconst 1, 1) := dk_4 (dk_at dksX4_meanWeight_0 15 rfl rfl)
theorem dX4_meanWeight_16 : decode cX4_meanWeight 16 = .ok (.invokevirtual 88, 3) := dk_182 0 88 (dk_at dksX4_meanWeight_0 16 rfl rfl)
theorem dX4_meanWeight_19 : decode cX4_meanWeight 19 = .ok (.pop, 1) := dk_87 (dk_at dksX4_meanWeight_0 19 rfl rfl)
theorem dX4_meanWeight_20 : decode cX4_meanWeight 20 = .ok (.dconst 0, 1) := dk_14 (dk_at dksX4_meanWeight_0 20 rfl rfl)
theorem dX4_meanWeight_21 : decode cX4_meanWeight 21 = .ok (.dreturn, 1) := dk_175 (dk_at dksX4_meanWeight_0 21 rfl rfl)
theorem dX4_meanWeight_22 : decode cX4_meanWeight 22 = .ok (.iconst 0, 1) := dk_3 (dk_at dksX4_meanWeight_0 22 rfl rfl)
theorem dX4_meanWeight_23 : decode cX4_meanWeight 23 = .ok (.istore_n 1, 1) := dk_60 (dk_at dksX4_meanWeight_0 23 rfl rfl)
theorem dX4_meanWeight_24 : decode cX4_meanWeight 24 = .ok (.iconst 0, 1) := dk_3 (dk_at dksX4_meanWeight_1 0 rfl rfl)
theorem dX4_meanWeight_25 : decode cX4_meanWeight 25 = .ok (.istore_n 2, 1) := dk_61 (dk_at dksX4_meanWeight_1 1 rfl rfl)
theorem dX4_meanWeight_26 : decode cX4_meanWeight 26 = .ok (.iload_n 2, 1) := dk_28 (dk_at dksX4_meanWeight_1 2 rfl rfl)
theorem dX4_meanWeight_27 : decode cX4_meanWeight 27 = .ok (.aload_n 0, 1) := dk_42 (dk_at dksX4_meanWeight_1 3 rfl rfl)
theorem dX4_meanWeight_28 : decode cX4_meanWeight 28 = .ok (.getfield 9, 3) := dk_180 0 9 (dk_at dksX4_meanWeight_1 4 rfl rfl)
theorem dX4_meanWeight_31 : decode cX4_meanWeight 31 = .ok (.iconst 0, 1) := dk_3 (dk_at dksX4_meanWeight_1 7 rfl rfl)
theorem dX4_meanWeight_32 : decode cX4_meanWeight 32 = .ok (.iaload, 1) := dk_46 (dk_at dksX4_meanWeight_1 8 rfl rfl)
theorem dX4_meanWeight_33 : decode cX4_meanWeight 33 = .ok (.if_icmp .ge 17, 3) := dk_162 0 17 (dk_at dksX4_meanWeight_1 9 rfl rfl)
theorem dX4_meanWeight_36 : decode cX4_meanWeight 36 = .ok (.iload_n 1, 1) := dk_27 (dk_at dksX4_meanWeight_1 12 rfl rfl)
theorem dX4_meanWeight_37 : decode cX4_meanWeight 37 = .ok (.aload_n 0, 1) := dk_42 (dk_at dksX4_meanWeight_1 13 rfl rfl)
theorem dX4_meanWeight_38 : decode cX4_meanWeight 38 = .ok (.iload_n 2, 1) := dk_28 (dk_at dksX4_meanWeight_1 14 rfl rfl)
theorem dX4_meanWeight_39 : decode cX4_meanWeight 39 = .ok (.invokevirtual 117, 3) := dk_182 0 117 (dk_at dksX4_meanWeight_1 15 rfl rfl)
theorem dX4_meanWeight_42 : decode cX4_meanWeight 42 = .ok (.iadd, 1) := dk_96 (dk_at dksX4_meanWeight_1 18 rfl rfl)
theorem dX4_meanWeight_43 : decode cX4_meanWeight 43 = .ok (.istore_n 1, 1) := dk_60 (dk_at dksX4_meanWeight_1 19 rfl rfl)
theorem dX4_meanWeight_44 : decode cX4_meanWeight 44 = .ok (.iinc 2 1, 3) := dk_132 2 1 (dk_at dksX4_meanWeight_1 20 rfl rfl)
theorem dX4_meanWeight_47 : decode cX4_meanWeight 47 = .ok (.goto (-21), 3) := dk_167 255 235 (dk_at dksX4_meanWeight_2 0 rfl rfl)
theorem dX4_meanWeight_50 : decode cX4_meanWeight 50 = .ok (.iload_n 1, 1) := dk_27 (dk_at dksX4_meanWeight_2 3 rfl rfl)
theorem dX4_meanWeight_51 : decode cX4_meanWeight 51 = .ok (.i2d, 1) := dk_135 (dk_at dksX4_meanWeight_2 4 rfl rfl)
theorem dX4_meanWeight_52 : decode cX4_meanWeight 52 = .ok (.aload_n 0, 1) := dk_42 (dk_at dksX4_meanWeight_2 5 rfl rfl)
theorem dX4_meanWeight_53 : decode cX4_meanWeight 53 = .ok (.getfield 9, 3) := dk_180 0 9 (dk_at dksX4_meanWeight_2 6 rfl rfl)
theorem dX4_meanWeight_56 : decode cX4_meanWeight 56 = .ok (.iconst 0, 1) := dk_3 (dk_at dksX4_meanWeight_2 9 rfl rfl)
theorem dX4_meanWeight_57 : decode cX4_meanWeight 57 = .ok (.iaload, 1) := dk_46 (dk_at dksX4_meanWeight_2 10 rfl rfl)
theorem dX4_meanWeight_58 : decode cX4_meanWeight 58 = .ok (.i2d, 1) := dk_135 (dk_at dksX4_meanWeight_2 11 rfl rfl)
theorem dX4_meanWeight_59 : decode cX4_meanWeight 59 = .ok (.ddiv, 1) := dk_111 (dk_at dksX4_meanWeight_2 12 rfl rfl)
theorem dX4_meanWeight_60 : decode cX4_meanWeight 60 = .ok (.dreturn, 1) := dk_175 (dk_at dksX4_meanWeight_2 13 rfl rfl)
def dkwX4_writeHull_6 : List UInt8 := [29, 96, 46, 182, 0, 223, 132, 3, 1, 167, 255, 177, 42, 180, 0, 216, 172]
abbrev dktX4_writeHull_6 : List UInt8 := dkwX4_writeHull_6 ++ []
def dkwX4_writeHull_5 : List UInt8 := [182, 0, 78, 162, 0, 27, 42, 16, 126, 182, 0, 219, 42, 42, 180, 0, 9, 27, 184, 0, 58, 16, 20, 96]
abbrev dktX4_writeHull_5 : List UInt8 := dkwX4_writeHull_5 ++ dktX4_writeHull_6
def dkwX4_writeHull_4 : List UInt8 := [182, 0, 223, 42, 16, 124, 182, 0, 219, 42, 42, 27, 29, 4, 182, 0, 71, 182, 0, 223, 29, 42, 27]
abbrev dktX4_writeHull_4 : List UInt8 := dkwX4_writeHull_4 ++ dktX4_writeHull_5
def dkwX4_writeHull_3 : List UInt8 := [62, 29, 42, 27, 182, 0, 62, 162, 0, 76, 42, 16, 32, 182, 0, 219, 42, 42, 27, 29, 3, 182, 0, 71]
abbrev dktX4_writeHull_3 : List UInt8 := dkwX4_writeHull_3 ++ dktX4_writeHull_4
def dkwX4_writeHull_2 : List UInt8 := [160, 0, 8, 16, 97, 167, 0, 15, 28, 5, 160, 0, 8, 16, 100, 167, 0, 5, 16, 115, 182, 0, 219, 3]
abbrev dktX4_writeHull_2 : List UInt8 := dkwX4_writeHull_2 ++ dktX4_writeHull_3
def dkwX4_writeHull_1 : List UInt8 := [61, 42, 3, 181, 0, 216, 42, 27, 182, 0, 223, 42, 28, 154, 0, 8, 16, 98, 167, 0, 25, 28, 4]
abbrev dktX4_writeHull_1 : List UInt8 := dkwX4_writeHull_1 ++ dktX4_writeHull_2
def dkwX4_writeHull_0 : List UInt8 := [42, 3, 181, 0, 48, 42, 27, 182, 0, 84, 154, 0, 9, 42, 4, 182, 0, 88, 172, 42, 27, 182, 0, 81]
abbrev dktX4_writeHull_0 : List UInt8 := dkwX4_writeHull_0 ++ dktX4_writeHull_1
theorem dksX4_writeHull_0 : cX4_writeHull.data.toList.drop 0 = dktX4_writeHull_0 := by decide +kernel
theorem dksX4_writeHull_1 : cX4_writeHull.data.toList.drop 24 = dktX4_writeHull_1 := dk_seg dksX4_writeHull_0 24 rfl rfl
theorem dksX4_writeHull_2 : cX4_writeHull.data.toList.drop 47 = dktX4_writeHull_2 := dk_seg dksX4_writeHull_1 23 rfl rfl
theorem dksX4_writeHull_3 : cX4_writeHull.data.toList.drop 71 = dktX4_writeHull_3 := dk_seg dksX4_writeHull_2 24 rfl rfl
theorem dksX4_writeHull_4 : cX4_writeHull.data.toList.drop 95 = dktX4_writeHull_4 := dk_seg dksX4_writeHull_3 24 rfl rfl
theorem dksX4_writeHull_5 : cX4_writeHull.data.toList.drop 118 = dktX4_writeHull_5 := dk_seg dksX4_writeHull_4 23 rfl rfl
theorem dksX4_writeHull_6 : cX4_writeHull.data.toList.drop 142 = dktX4_writeHull_6 := dk_seg dksX4_writeHull_5 24 rfl rfl
theorem dX4_writeHull_0 : decode cX4_writeHull 0 = .ok (.aload_n 0, 1) := dk_42 (dk_at dksX4_writeHull_0 0 rfl rfl)
theorem dX4_writeHull_1 : decode cX4_writeHull 1 = .ok (.iconst 0, 1) := dk_3 (dk_at dksX4_writeHull_0 1 rfl rfl)
theorem dX4_writeHull_2 : decode cX4_writeHull 2 = .ok (.putfield 48, 3) := dk_181 0 48 (dk_at dksX4_writeHull_0 2 rfl rfl)
theorem dX4_writeHull_5 : decode cX4_writeHull 5 = .ok (.aload_n 0, 1) := dk_42 (dk_at dksX4_writeHull_0 5 rfl rfl)
theorem dX4_writeHull_6 : decode cX4_writeHull 6 = .ok (.iload_n 1, 1) := dk_27 (dk_at dksX4_writeHull_0 6 rfl rfl)
theorem dX4_writeHull_7 : decode cX4_writeHull 7 = .ok (.invokevirtual 84, 3) := dk_182 0 84 (dk_at dksX4_writeHull_0 7 rfl rfl)
theorem dX4_writeHull_10 : decode cX4_writeHull 10 = .ok (.ifCond .ne 9, 3) := dk_154 0 9 (dk_at dksX4_writeHull_0 10 rfl rfl)
theorem dX4_writeHull_13 : decode cX4_writeHull 13 = .ok (.aload_n 0, 1) := dk_42 (dk_at dksX4_writeHull_0 13 rfl rfl)
theorem dX4_writeHull_14 : decode cX4_writeHull 14 = .ok (.iconst 1, 1) := dk_4 (dk_at dksX4_writeHull_0 14 rfl rfl)
theorem dX4_writeHull_15 : decode cX4_writeHull 15 = .ok (.invokevirtual 88, 3) := dk_182 0 88 (dk_at dksX4_writeHull_0 15 rfl rfl)
theorem dX4_writeHull_18 : decode cX4_writeHull 18 = .ok (.ireturn, 1) := dk_172 (dk_at dksX4_writeHull_0 18 rfl rfl)
theorem dX4_writeHull_19 : decode cX4_writeHull 19 = .ok (.aload_n 0, 1) := dk_42 (dk_at dksX4_writeHull_0 19 rfl rfl)
theorem dX4_writeHull_20 : decode cX4_writeHull 20 = .ok (.iload_n 1, 1) := dk_27 (dk_at dksX4_writeHull_0 20 rfl rfl)
theorem dX4_writeHull_21 : decode cX4_writeHull 21 = .ok (.invokevirtual 81, 3) := dk_182 0 81 (dk_at dksX4_writeHull_0 21 rfl rfl)
theorem dX4_writeHull_24 : decode cX4_writeHull 24 = .ok (.istore_n 2, 1) := dk_61 (dk_at dksX4_writeHull_1 0 rfl rfl)
theorem dX4_writeHull_25 : decode cX4_writeHull 25 = .ok (.aload_n 0, 1) := dk_42 (dk_at dksX4_writeHull_1 1 rfl rfl)
theorem dX4_writeHull_26 : decode cX4_writeHull 26 = .ok (.iconst 0, 1) := dk_3 (dk_at dksX4_writeHull_1 2 rfl rfl)
theorem dX4_writeHull_27 : decode cX4_writeHull 27 = .ok (.putfield 216, 3) := dk_181 0 216 (dk_at dksX4_writeHull_1 3 rfl rfl)
theorem dX4_writeHull_30 : decode cX4_writeHull 30 = .ok (.aload_n 0, 1) := dk_42 (dk_at dksX4_writeHull_1 6 rfl rfl)
theorem dX4_writeHull_31 : decode cX4_writeHull 31 = .ok (.iload_n 1, 1) := dk_27 (dk_at dksX4_writeHull_1 7 rfl rfl)
theorem dX4_writeHull_32 : decode cX4_writeHull 32 = .ok (.invokevirtual 223, 3) := dk_182 0 223 (dk_at dksX4_writeHull_1 8 rfl rfl)
theorem dX4_writeHull_35 : decode cX4_writeHull 35 = .ok (.aload_n 0, 1) := dk_42 (dk_at dksX4_writeHull_1 11 rfl rfl)
theorem dX4_writeHull_36 : decode cX4_writeHull 36 = .ok (.iload_n 2, 1) := dk_28 (dk_at dksX4_writeHull_1 12 rfl rfl)
theorem dX4_writeHull_37 : decode cX4_writeHull 37 = .ok (.ifCond .ne 8, 3) := dk_154 0 8 (dk_at dksX4_writeHull_1 13 rfl rfl)
theorem dX4_writeHull_40 : decode cX4_writeHull 40 = .ok (.bipush 98, 2) := dk_16 98 (dk_at dksX4_writeHull_1 16 rfl rfl)
theorem dX4_writeHull_42 : decode cX4_writeHull 42 = .ok (.goto 25, 3) := dk_167 0 25 (dk_at dksX4_writeHull_1 18 rfl rfl)
theorem dX4_writeHull_45 : decode cX4_writeHull 45 = .ok (.iload_n 2, 1) := dk_28 (dk_at dksX4_writeHull_1 21 rfl rfl)
theorem dX4_writeHull_46 : decode cX4_writeHull 46 = .ok (.iconst 1, 1) := dk_4 (dk_at dksX4_writeHull_1 22 rfl rfl)
theorem dX4_writeHull_47 : decode cX4_writeHull 47 = .ok (.if_icmp .ne 8, 3) := dk_160 0 8 (dk_at dksX4_writeHull_2 0 rfl rfl)
theorem dX4_writeHull_50 : decode cX4_writeHull 50 = .ok (.bipush 97, 2) := dk_16 97 (dk_at dksX4_writeHull_2 3 rfl rfl)
theorem dX4_writeHull_52 : decode cX4_writeHull 52 = .ok (.goto 15, 3) := dk_167 0 15 (dk_at dksX4_writeHull_2 5 rfl rfl)
theorem dX4_writeHull_55 : decode cX4_writeHull 55 = .ok (.iload_n 2, 1) := dk_28 (dk_at dksX4_writeHull_2 8 rfl rfl)
theorem dX4_writeHull_56 : decode cX4_writeHull 56 = .ok (.iconst 2, 1) := dk_5 (dk_at dksX4_writeHull_2 9 rfl rfl)
theorem dX4_writeHull_57 : decode cX4_writeHull 57 = .ok (.if_icmp .ne 8, 3) := dk_160 0 8 (dk_at dksX4_writeHull_2 10 rfl rfl)
theorem dX4_writeHull_60 : decode cX4_writeHull 60 = .ok (.bipush 100, 2) := dk_16 100 (dk_at dksX4_writeHull_2 13 rfl rfl)
theorem dX4_writeHull_62 : decode cX4_writeHull 62 = .ok (.goto 5, 3) := dk_167 0 5 (dk_at dksX4_writeHull_2 15 rfl rfl)
theorem dX4_writeHull_65 : decode cX4_writeHull 65 = .ok (.bipush 115, 2) := dk_16 115 (dk_at dksX4_writeHull_2 18 rfl rfl)
theorem dX4_writeHull_67 : decode cX4_writeHull 67 = .ok (.invokevirtual 219, 3) := dk_182 0 219 (dk_at dksX4_writeHull_2 20 rfl rfl)
theorem dX4_writeHull_70 : decode cX4_writeHull 70 = .ok (.iconst 0, 1) := dk_3 (dk_at dksX4_writeHull_2 23 rfl rfl)
theorem dX4_writeHull_71 : decode cX4_writeHull 71 = .ok (.istore_n 3, 1) := dk_62 (dk_at dksX4_writeHull_3 0 rfl rfl)
theorem dX4_writeHull_72 : decode cX4_writeHull 72 = .ok (.iload_n 3, 1) := dk_29 (dk_at dksX4_writeHull_3 1 rfl rfl)
theorem dX4_writeHull_73 : decode cX4_writeHull 73 = .ok (.aload_n 0, 1) := dk_42 (dk_at dksX4_writeHull_3 2 rfl rfl)
theorem dX4_writeHull_74 : decode cX4_writeHull 74 = .ok (.iload_n 1, 1) := dk_27 (dk_at dksX4_writeHull_3 3 rfl rfl)
theorem dX4_writeHull_75 : decode cX4_writeHull 75 = .ok (.invokevirtual 62, 3) := dk_182 0 62 (dk_at dksX4_writeHull_3 4 rfl rfl)
theorem dX4_writeHull_78 : decode cX4_writeHull 78 = .ok (.if_icmp .ge 76, 3) := dk_162 0 76 (dk_at dksX4_writeHull_3 7 rfl rfl)
theorem dX4_writeHull_81 : decode cX4_writeHull 81 = .ok (.aload_n 0, 1) := dk_42 (dk_at dksX4_writeHull_3 10 rfl rfl)
theorem dX4_writeHull_82 : decode cX4_writeHull 82 = .ok (.bipush 32, 2) := dk_16 32 (dk_at dksX4_writeHull_3 11 rfl rfl)
theorem dX4_writeHull_84 : decode cX4_writeHull 84 = .ok (.invokevirtual 219, 3) := dk_182 0 219 (dk_at dksX4_writeHull_3 13 rfl rfl)
theorem dX4_writeHull_87 : decode cX4_writeHull 87 = .ok (.aload_n 0, 1) := dk_42 (dk_at dksX4_writeHull_3 16 rfl rfl)
theorem dX4_writeHull_88 : decode cX4_writeHull 88 = .ok (.aload_n 0, 1) := dk_42 (dk_at dksX4_writeHull_3 17 rfl rfl)
theorem dX4_writeHull_89 : decode cX4_writeHull 89 = .ok (.iload_n 1, 1) := dk_27 (dk_at dksX4_writeHull_3 18 rfl rfl)
theorem dX4_writeHull_90 : decode cX4_writeHull 90 = .ok (.iload_n 3, 1) := dk_29 (dk_at dksX4_writeHull_3 19 rfl rfl)
theorem dX4_writeHull_91 : decode cX4_writeHull 91 = .ok (.iconst 0, 1) := dk_3 (dk_at dksX4_writeHull_3 20 rfl rfl)
theorem dX4_writeHull_92 : decode cX4_writeHull 92 = .ok (.invokevirtual 71, 3) := dk_182 0 71 (dk_at dksX4_writeHull_3 21 rfl rfl)
theorem dX4_writeHull_95 : decode cX4_writeHull 95 = .ok (.invokevirtual 223, 3) := dk_182 0 223 (dk_at dksX4_writeHull_4 0 rfl rfl)
theorem dX4_writeHull_98 : decode cX4_writeHull 98 = .ok (.aload_n 0, 1) := dk_42 (dk_at dksX4_writeHull_4 3 rfl rfl)
theorem dX4_writeHull_99 : decode cX4_writeHull 99 = .ok (.bipush 124, 2) := dk_16 124 (dk_at dksX4_writeHull_4 4 rfl rfl)
theorem dX4_writeHull_101 : decode cX4_writeHull 101 = .ok (.invokevirtual 219, 3) := dk_182 0 219 (dk_at dksX4_writeHull_4 6 rfl rfl)
theorem dX4_writeHull_104 : decode cX4_writeHull 104 = .ok (.aload_n 0, 1) := dk_42 (dk_at dksX4_writeHull_4 9 rfl rfl)
theorem dX4_writeHull_105 : decode cX4_writeHull 105 = .ok (.aload_n 0, 1) := dk_42 (dk_at dksX4_writeHull_4 10 rfl rfl)
theorem dX4_writeHull_106 : decode cX4_writeHull 106 = .ok (.iload_n 1, 1) := dk_27 (dk_at dksX4_writeHull_4 11 rfl rfl)
theorem dX4_writeHull_107 : decode cX4_writeHull 107 = .ok (.iload_n 3, 1) := dk_29 (dk_at dksX4_writeHull_4 12 rfl rfl)
theorem dX4_writeHull_108 : decode cX4_writeHull 108 = .ok (.iconst 1, 1) := dk_4 (dk_at dksX4_writeHull_4 13 rfl rfl)
theorem dX4_writeHull_109 : decode cX4_writeHull 109 = .ok (.invokevirtual 71, 3) := dk_182 0 71 (dk_at dksX4_writeHull_4 14 rfl rfl)
theorem dX4_writeHull_112 : decode cX4_writeHull 112 = .ok (.invokevirtual 223, 3) := dk_182 0 223 (dk_at dksX4_writeHull_4 17 rfl rfl)
theorem dX4_writeHull_115 : decode cX4_writeHull 115 = .ok (.iload_n 3, 1) := dk_29 (dk_at dksX4_writeHull_4 20 rfl rfl)
theorem dX4_writeHull_116 : decode cX4_writeHull 116 = .ok (.aload_n 0, 1) := dk_42 (dk_at dksX4_writeHull_4 21 rfl rfl)
theorem dX4_writeHull_117 : decode cX4_writeHull 117 = .ok (.iload_n 1, 1) := dk_27 (dk_at dksX4_writeHull_4 22 rfl rfl)
theorem dX4_writeHull_118 : decode cX4_writeHull 118 = .ok (.invokevirtual 78, 3) := dk_182 0 78 (dk_at dksX4_writeHull_5 0 rfl rfl)
theorem dX4_writeHull_121 : decode cX4_writeHull 121 = .ok (.if_icmp .ge 27, 3) := dk_162 0 27 (dk_at dksX4_writeHull_5 3 rfl rfl)
theorem dX4_writeHull_124 : decode cX4_writeHull 124 = .ok (.aload_n 0, 1) := dk_42 (dk_at dksX4_writeHull_5 6 rfl rfl)
theorem dX4_writeHull_125 : decode cX4_writeHull 125 = .ok (.bipush 126, 2) := dk_16 126 (dk_at dksX4_writeHull_5 7 rfl rfl)
theorem dX4_writeHull_127 : decode cX4_writeHull 127 = .ok (.invokevirtual 219, 3) := dk_182 0 219 (dk_at dksX4_writeHull_5 9 rfl rfl)
theorem dX4_writeHull_130 : decode cX4_writeHull 130 = .ok (.aload_n 0, 1) := dk_42 (dk_at dksX4_writeHull_5 12 rfl rfl)
theorem dX4_writeHull_131 : decode cX4_writeHull 131 = .ok (.aload_n 0, 1) := dk_42 (dk_at dksX4_writeHull_5 13 rfl rfl)
theorem dX4_writeHull_132 : decode cX4_writeHull 132 = .ok (.getfield 9, 3) := dk_180 0 9 (dk_at dksX4_writeHull_5 14 rfl rfl)
theorem dX4_writeHull_135 : decode cX4_writeHull 135 = .ok (.iload_n 1, 1) := dk_27 (dk_at dksX4_writeHull_5 17 rfl rfl)
theorem dX4_writeHull_136 : decode cX4_writeHull 136 = .ok (.invokestatic 58, 3) := dk_184 0 58 (dk_at dksX4_writeHull_5 18 rfl rfl)
theorem dX4_writeHull_139 : decode cX4_writeHull 139 = .ok (.bipush 20, 2) := dk_16 20 (dk_at dksX4_writeHull_5 21 rfl rfl)
theorem dX4_writeHull_141 : decode cX4_writeHull 141 = .ok (.iadd, 1) := dk_96 (dk_at dksX4_writeHull_5 23 rfl rfl)
theorem dX4_writeHull_142 : decode cX4_writeHull 142 = .ok (.iload_n 3, 1) := dk_29 (dk_at dksX4_writeHull_6 0 rfl rfl)
theorem dX4_writeHull_143 : decode cX4_writeHull 143 = .ok (.iadd, 1) := dk_96 (dk_at dksX4_writeHull_6 1 rfl rfl)
theorem dX4_writeHull_144 : decode cX4_writeHull 144 = .ok (.iaload, 1) := dk_46 (dk_at dksX4_writeHull_6 2 rfl rfl)
theorem dX4_writeHull_145 : decode cX4_writeHull 145 = .ok (.invokevirtual 223, 3) := dk_182 0 223 (dk_at dksX4_writeHull_6 3 rfl rfl)
theorem dX4_writeHull_148 : decode cX4_writeHull 148 = .ok (.iinc 3 1, 3) := dk_132 3 1 (dk_at dksX4_writeHull_6 6 rfl rfl)
theorem dX4_writeHull_151 : decode cX4_writeHull 151 = .ok (.goto (-79), 3) := dk_167 255 177 (dk_at dksX4_writeHull_6 9 rfl rfl)
theorem dX4_writeHull_154 : decode cX4_writeHull 154 = .ok (.aload_n 0, 1) := dk_42 (dk_at dksX4_writeHull_6 12 rfl rfl)
theorem dX4_writeHull_155 : decode cX4_writeHull 155 = .ok (.getfield 216, 3) := dk_180 0 216 (dk_at dksX4_writeHull_6 13 rfl rfl)
theorem dX4_writeHull_158 : decode cX4_writeHull 158 = .ok (.ireturn, 1) := dk_172 (dk_at dksX4_writeHull_6 16 rfl rfl)
def dkwX4_writesNumber_1 : List UInt8 := [96, 182, 0, 219, 177]
abbrev dktX4_writesNumber_1 : List UInt8 := dkwX4_writesNumber_1 ++ []
def dkwX4_writesNumber_0 : List UInt8 := [27, 16, 9, 164, 0, 14, 42, 16, 48, 27, 16, 10, 108, 96, 182, 0, 219, 42, 16, 48, 27, 16, 10, 112]
abbrev dktX4_writesNumber_0 : List UInt8 := dkwX4_writesNumber_0 ++ dktX4_writesNumber_1
theorem dksX4_writesNumber_0 : cX4_writesNumber.data.toList.drop 0 = dktX4_writesNumber_0 := by decide +kernel
theorem dksX4_writesNumber_1 : cX4_writesNumber.data.toList.drop 24 = dktX4_writesNumber_1 := dk_seg dksX4_writesNumber_0 24 rfl rfl
theorem dX4_writesNumber_0 : decode cX4_writesNumber 0 = .ok (.iload_n 1, 1) := dk_27 (dk_at dksX4_writesNumber_0 0 rfl rfl)
theorem dX4_writesNumber_1 : decode cX4_writesNumber 1 = .ok (.bipush 9, 2) := dk_16 9 (dk_at dksX4_writesNumber_0 1 rfl rfl)
theorem dX4_writesNumber_3 : decode cX4_writesNumber 3 = .ok (.if_icmp .le 14, 3) := dk_164 0 14 (dk_at dksX4_writesNumber_0 3 rfl rfl)
theorem dX4_writesNumber_6 : decode cX4_writesNumber 6 = .ok (.aload_n 0, 1) := dk_42 (dk_at dksX4_writesNumber_0 6 rfl rfl)
theorem dX4_writesNumber_7 : decode cX4_writesNumber 7 = .ok (.bipush 48, 2) := dk_16 48 (dk_at dksX4_writesNumber_0 7 rfl rfl)
theorem dX4_writesNumber_9 : decode cX4_writesNumber 9 = .ok (.iload_n 1, 1) := dk_27 (dk_at dksX4_writesNumber_0 9 rfl rfl)
theorem dX4_writesNumber_10 : decode cX4_writesNumber 10 = .ok (.bipush 10, 2) := dk_16 10 (dk_at dksX4_writesNumber_0 10 rfl rfl)
theorem dX4_writesNumber_12 : decode cX4_writesNumber 12 = .ok (.idiv, 1) := dk_108 (dk_at dksX4_writesNumber_0 12 rfl rfl)
theorem dX4_writesNumber_13 : decode cX4_writesNumber 13 = .ok (.iadd, 1) := dk_96 (dk_at dksX4_writesNumber_0 13 rfl rfl)
theorem dX4_writesNumber_14 : decode cX4_writesNumber 14 = .ok (.invokevirtual 219, 3) := dk_182 0 219 (dk_at dksX4_writesNumber_0 14 rfl rfl)
theorem dX4_writesNumber_17 : decode cX4_writesNumber 17 = .ok (.aload_n 0, 1) := dk_42 (dk_at dksX4_writesNumber_0 17 rfl rfl)
theorem dX4_writesNumber_18 : decode cX4_writesNumber 18 = .ok (.bipush 48, 2) := dk_16 48 (dk_at dksX4_writesNumber_0 18 rfl rfl)
theorem dX4_writesNumber_20 : decode cX4_writesNumber 20 = .ok (.iload_n 1, 1) := dk_27 (dk_at dksX4_writesNumber_0 20 rfl rfl)
theorem dX4_writesNumber_21 : decode cX4_writesNumber 21 = .ok (.bipush 10, 2) := dk_16 10 (dk_at dksX4_writesNumber_0 21 rfl rfl)
theorem dX4_writesNumber_23 : decode cX4_writesNumber 23 = .ok (.irem, 1) := dk_112 (dk_at dksX4_writesNumber_0 23 rfl rfl)
theorem dX4_writesNumber_24 : decode cX4_writesNumber 24 = .ok (.iadd, 1) := dk_96 (dk_at dksX4_writesNumber_1 0 rfl rfl)
theorem dX4_writesNumber_25 : decode cX4_writesNumber 25 = .ok (.invokevirtual 219, 3) := dk_182 0 219 (dk_at dksX4_writesNumber_1 1 rfl rfl)
theorem dX4_writesNumber_28 : decode cX4_writesNumber 28 = .ok (.return_, 1) := dk_177 (dk_at dksX4_writesNumber_1 4 rfl rfl)
def dkwX4_sign_0 : List UInt8 := [42, 180, 0, 35, 42, 180, 0, 216, 27, 79, 42, 89, 180, 0, 216, 4, 96, 181, 0, 216, 177]
abbrev dktX4_sign_0 : List UInt8 := dkwX4_sign_0 ++ []
theorem dksX4_sign_0 : cX4_sign.data.toList.drop 0 = dktX4_sign_0 := by decide +kernel
theorem dX4_sign_0 : decode cX4_sign 0 = .ok (.aload_n 0, 1) := dk_42 (dk_at dksX4_sign_0 0 rfl rfl)
theorem dX4_sign_1 : decode cX4_sign 1 = .ok (.getfield 35, 3) := dk_180 0 35 (dk_at dksX4_sign_0 1 rfl rfl)
theorem dX4_sign_4 : decode cX4_sign 4 = .ok (.aload_n 0, 1) := dk_42 (dk_at dksX4_sign_0 4 rfl rfl)
theorem dX4_sign_5 : decode cX4_sign 5 = .ok (.getfield 216, 3) := dk_180 0 216 (dk_at dksX4_sign_0 5 rfl rfl)
theorem dX4_sign_8 : decode cX4_sign 8 = .ok (.iload_n 1, 1) := dk_27 (dk_at dksX4_sign_0 8 rfl rfl)
theorem dX4_sign_9 : decode cX4_sign 9 = .ok (.iastore, 1) := dk_79 (dk_at dksX4_sign_0 9 rfl rfl)
theorem dX4_sign_10 : decode cX4_sign 10 = .ok (.aload_n 0, 1) := dk_42 (dk_at dksX4_sign_0 10 rfl rfl)
theorem dX4_sign_11 : decode cX4_sign 11 = .ok (.dup, 1) := dk_89 (dk_at dksX4_sign_0 11 rfl rfl)
theorem dX4_sign_12 : decode cX4_sign 12 = .ok (.getfield 216, 3) := dk_180 0 216 (dk_at dksX4_sign_0 12 rfl rfl)
theorem dX4_sign_15 : decode cX4_sign 15 = .ok (.iconst 1, 1) := dk_4 (dk_at dksX4_sign_0 15 rfl rfl)
theorem dX4_sign_16 : decode cX4_sign 16 = .ok (.iadd, 1) := dk_96 (dk_at dksX4_sign_0 16 rfl rfl)
theorem dX4_sign_17 : decode cX4_sign 17 = .ok (.putfield 216, 3) := dk_181 0 216 (dk_at dksX4_sign_0 17 rfl rfl)
theorem dX4_sign_20 : decode cX4_sign 20 = .ok (.return_, 1) := dk_177 (dk_at dksX4_sign_0 20 rfl rfl)
def dkwX4_lineAt_1 : List UInt8 := [180, 0, 35, 27, 46, 146, 167, 0, 9, 42, 4, 182, 0, 88, 146, 172]
abbrev dktX4_lineAt_1 : List UInt8 := dkwX4_lineAt_1 ++ []
def dkwX4_lineAt_0 : List UInt8 := [42, 3, 181, 0, 48, 27, 133, 9, 42, 180, 0, 216, 4, 100, 133, 184, 0, 54, 153, 0, 13, 42]
abbrev dktX4_lineAt_0 : List UInt8 := dkwX4_lineAt_0 ++ dktX4_lineAt_1
theorem dksX4_lineAt_0 : cX4_lineAt.data.toList.drop 0 = dktX4_lineAt_0 := by decide +kernel
theorem dksX4_lineAt_1 : cX4_lineAt.data.toList.drop 22 = dktX4_lineAt_1 := dk_seg dksX4_lineAt_0 22 rfl rfl
theorem dX4_lineAt_0 : decode cX4_lineAt 0 = .ok (.aload_n 0, 1) := dk_42 (dk_at dksX4_lineAt_0 0 rfl rfl)
theorem dX4_lineAt_1 : decode cX4_lineAt 1 = .ok (.iconst 0, 1) := dk_3 (dk_at dksX4_lineAt_0 1 rfl rfl)
theorem dX4_lineAt_2 : decode cX4_lineAt 2 = .ok (.putfield 48, 3) := dk_181 0 48 (dk_at dksX4_lineAt_0 2 rfl rfl)
theorem dX4_lineAt_5 : decode cX4_lineAt 5 = .ok (.iload_n 1, 1) := dk_27 (dk_at dksX4_lineAt_0 5 rfl rfl)
theorem dX4_lineAt_6 : decode cX4_lineAt 6 = .ok (.i2l, 1) := dk_133 (dk_at dksX4_lineAt_0 6 rfl rfl)
theorem dX4_lineAt_7 : decode cX4_lineAt 7 = .ok (.lconst 0, 1) := dk_9 (dk_at dksX4_lineAt_0 7 rfl rfl)
theorem dX4_lineAt_8 : decode cX4_lineAt 8 = .ok (.aload_n 0, 1) := dk_42 (dk_at dksX4_lineAt_0 8 rfl rfl)
theorem dX4_lineAt_9 : decode cX4_lineAt 9 = .ok (.getfield 216, 3) := dk_180 0 216 (dk_at dksX4_lineAt_0 9 rfl rfl)
theorem dX4_lineAt_12 : decode cX4_lineAt 12 = .ok (.iconst 1, 1) := dk_4 (dk_at dksX4_lineAt_0 12 rfl rfl)
theorem dX4_lineAt_13 : decode cX4_lineAt 13 = .ok (.isub, 1) := dk_100 (dk_at dksX4_lineAt_0 13 rfl rfl)
theorem dX4_lineAt_14 : decode cX4_lineAt 14 = .ok (.i2l, 1) := dk_133 (dk_at dksX4_lineAt_0 14 rfl rfl)
theorem dX4_lineAt_15 : decode cX4_lineAt 15 = .ok (.invokestatic 54, 3) := dk_184 0 54 (dk_at dksX4_lineAt_0 15 rfl rfl)
theorem dX4_lineAt_18 : decode cX4_lineAt 18 = .ok (.ifCond .eq 13, 3) := dk_153 0 13 (dk_at dksX4_lineAt_0 18 rfl rfl)
theorem dX4_lineAt_21 : decode cX4_lineAt 21 = .ok (.aload_n 0, 1) := dk_42 (dk_at dksX4_lineAt_0 21 rfl rfl)
theorem dX4_lineAt_22 : decode cX4_lineAt 22 = .ok (.getfield 35, 3) := dk_180 0 35 (dk_at dksX4_lineAt_1 0 rfl rfl)
theorem dX4_lineAt_25 : decode cX4_lineAt 25 = .ok (.iload_n 1, 1) := dk_27 (dk_at dksX4_lineAt_1 3 rfl rfl)
theorem dX4_lineAt_26 : decode cX4_lineAt 26 = .ok (.iaload, 1) := dk_46 (dk_at dksX4_lineAt_1 4 rfl rfl)
theorem dX4_lineAt_27 : decode cX4_lineAt 27 = .ok (.i2c, 1) := dk_146 (dk_at dksX4_lineAt_1 5 rfl rfl)
theorem dX4_lineAt_28 : decode cX4_lineAt 28 = .ok (.goto 9, 3) := dk_167 0 9 (dk_at dksX4_lineAt_1 6 rfl rfl)
theorem dX4_lineAt_31 : decode cX4_lineAt 31 = .ok (.aload_n 0, 1) := dk_42 (dk_at dksX4_lineAt_1 9 rfl rfl)
theorem dX4_lineAt_32 : decode cX4_lineAt 32 = .ok (.iconst 1, 1) := dk_4 (dk_at dksX4_lineAt_1 10 rfl rfl)
theorem dX4_lineAt_33 : decode cX4_lineAt 33 = .ok (.invokevirtual 88, 3) := dk_182 0 88 (dk_at dksX4_lineAt_1 11 rfl rfl)
theorem dX4_lineAt_36 : decode cX4_lineAt 36 = .ok (.i2c, 1) := dk_146 (dk_at dksX4_lineAt_1 14 rfl rfl)
theorem dX4_lineAt_37 : decode cX4_lineAt 37 = .ok (.ireturn, 1) := dk_172 (dk_at dksX4_lineAt_1 15 rfl rfl)
def dkwX4_type_2 : List UInt8 := [27, 79, 42, 89, 180, 0, 230, 4, 96, 181, 0, 230, 42, 180, 0, 230, 172]
abbrev dktX4_type_2 : List UInt8 := dkwX4_type_2 ++ []
def dkwX4_type_1 : List UInt8 := [172, 42, 180, 0, 230, 16, 60, 160, 0, 9, 42, 5, 182, 0, 88, 172, 42, 180, 0, 29, 42, 180, 0, 230]
abbrev dktX4_type_1 : List UInt8 := dkwX4_type_1 ++ dktX4_type_2
def dkwX4_type_0 : List UInt8 := [42, 3, 181, 0, 48, 27, 133, 20, 0, 226, 20, 0, 228, 184, 0, 54, 154, 0, 9, 42, 4, 182, 0, 88]
abbrev dktX4_type_0 : List UInt8 := dkwX4_type_0 ++ dktX4_type_1
theorem dksX4_type_0 : cX4_type.data.toList.drop 0 = dktX4_type_0 := by decide +kernel
theorem dksX4_type_1 : cX4_type.data.toList.drop 24 = dktX4_type_1 := dk_seg dksX4_type_0 24 rfl rfl
theorem dksX4_type_2 : cX4_type.data.toList.drop 48 = dktX4_type_2 := dk_seg dksX4_type_1 24 rfl rfl
theorem dX4_type_0 : decode cX4_type 0 = .ok (.aload_n 0, 1) := dk_42 (dk_at dksX4_type_0 0 rfl rfl)
theorem dX4_type_1 : decode cX4_type 1 = .ok (.iconst 0, 1) := dk_3 (dk_at dksX4_type_0 1 rfl rfl)
theorem dX4_type_2 : decode cX4_type 2 = .ok (.putfield 48, 3) := dk_181 0 48 (dk_at dksX4_type_0 2 rfl rfl)
theorem dX4_type_5 : decode cX4_type 5 = .ok (.iload_n 1, 1) := dk_27 (dk_at dksX4_type_0 5 rfl rfl)
theorem dX4_type_6 : decode cX4_type 6 = .ok (.i2l, 1) := dk_133 (dk_at dksX4_type_0 6 rfl rfl)
theorem dX4_type_7 : decode cX4_type 7 = .ok (.ldc2_w 226, 3) := dk_20 0 226 (dk_at dksX4_type_0 7 rfl rfl)
theorem dX4_type_10 : decode cX4_type 10 = .ok (.ldc2_w 228, 3) := dk_20 0 228 (dk_at dksX4_type_0 10 rfl rfl)
theorem dX4_type_13 : decode cX4_type 13 = .ok (.invokestatic 54, 3) := dk_184 0 54 (dk_at dksX4_type_0 13 rfl rfl)
theorem dX4_type_16 : decode cX4_type 16 = .ok (.ifCond .ne 9, 3) := dk_154 0 9 (dk_at dksX4_type_0 16 rfl rfl)
theorem dX4_type_19 : decode cX4_type 19 = .ok (.aload_n 0, 1) := dk_42 (dk_at dksX4_type_0 19 rfl rfl)
theorem dX4_type_20 : decode cX4_type 20 = .ok (.iconst 1, 1) := dk_4 (dk_at dksX4_type_0 20 rfl rfl)
theorem dX4_type_21 : decode cX4_type 21 = .ok (.invokevirtual 88, 3) := dk_182 0 88 (dk_at dksX4_type_0 21 rfl rfl)
theorem dX4_type_24 : decode cX4_type 24 = .ok (.ireturn, 1) := dk_172 (dk_at dksX4_type_1 0 rfl rfl)
theorem dX4_type_25 : decode cX4_type 25 = .ok (.aload_n 0, 1) := dk_42 (dk_at dksX4_type_1 1 rfl rfl)
theorem dX4_type_26 : decode cX4_type 26 = .ok (.getfield 230, 3) := dk_180 0 230 (dk_at dksX4_type_1 2 rfl rfl)
theorem dX4_type_29 : decode cX4_type 29 = .ok (.bipush 60, 2) := dk_16 60 (dk_at dksX4_type_1 5 rfl rfl)
theorem dX4_type_31 : decode cX4_type 31 = .ok (.if_icmp .ne 9, 3) := dk_160 0 9 (dk_at dksX4_type_1 7 rfl rfl)
theorem dX4_type_34 : decode cX4_type 34 = .ok (.aload_n 0, 1) := dk_42 (dk_at dksX4_type_1 10 rfl rfl)
theorem dX4_type_35 : decode cX4_type 35 = .ok (.iconst 2, 1) := dk_5 (dk_at dksX4_type_1 11 rfl rfl)
theorem dX4_type_36 : decode cX4_type 36 = .ok (.invokevirtual 88, 3) := dk_182 0 88 (dk_at dksX4_type_1 12 rfl rfl)
theorem dX4_type_39 : decode cX4_type 39 = .ok (.ireturn, 1) := dk_172 (dk_at dksX4_type_1 15 rfl rfl)
theorem dX4_type_40 : decode cX4_type 40 = .ok (.aload_n 0, 1) := dk_42 (dk_at dksX4_type_1 16 rfl rfl)
theorem dX4_type_41 : decode cX4_type 41 = .ok (.getfield 29, 3) := dk_180 0 29 (dk_at dksX4_type_1 17 rfl rfl)
theorem dX4_type_44 : decode cX4_type 44 = .ok (.aload_n 0, 1) := dk_42 (dk_at dksX4_type_1 20 rfl rfl)
theorem dX4_type_45 : decode cX4_type 45 = .ok (.getfield 230, 3) := dk_180 0 230 (dk_at dksX4_type_1 21 rfl rfl)
theorem dX4_type_48 : decode cX4_type 48 = .ok (.iload_n 1, 1) := dk_27 (dk_at dksX4_type_2 0 rfl rfl)
theorem dX4_type_49 : decode cX4_type 49 = .ok (.iastore, 1) := dk_79 (dk_at dksX4_type_2 1 rfl rfl)
theorem dX4_type_50 : decode cX4_type 50 = .ok (.aload_n 0, 1) := dk_42 (dk_at dksX4_type_2 2 rfl rfl)
theorem dX4_type_51 : decode cX4_type 51 = .ok (.dup, 1) := dk_89 (dk_at dksX4_type_2 3 rfl rfl)
theorem dX4_type_52 : decode cX4_type 52 = .ok (.getfield 230, 3) := dk_180 0 230 (dk_at dksX4_type_2 4 rfl rfl)
theorem dX4_type_55 : decode cX4_type 55 = .ok (.iconst 1, 1) := dk_4 (dk_at dksX4_type_2 7 rfl rfl)
theorem dX4_type_56 : decode cX4_type 56 = .ok (.iadd, 1) := dk_96 (dk_at dksX4_type_2 8 rfl rfl)
theorem dX4_type_57 : decode cX4_type 57 = .ok (.putfield 230, 3) := dk_181 0 230 (dk_at dksX4_type_2 9 rfl rfl)
theorem dX4_type_60 : decode cX4_type 60 = .ok (.aload_n 0, 1) := dk_42 (dk_at dksX4_type_2 12 rfl rfl)
theorem dX4_type_61 : decode cX4_type 61 = .ok (.getfield 230, 3) := dk_180 0 230 (dk_at dksX4_type_2 13 rfl rfl)
theorem dX4_type_64 : decode cX4_type 64 = .ok (.ireturn, 1) := dk_172 (dk_at dksX4_type_2 16 rfl rfl)
def dkwX4_execute_8 : List UInt8 := [182, 0, 98, 172]
abbrev dktX4_execute_8 : List UInt8 := dkwX4_execute_8 ++ []
def dkwX4_execute_7 : List UInt8 := [42, 28, 181, 0, 26, 42, 5, 182, 0, 88, 172, 132, 2, 1, 167, 255, 193, 42, 42, 180, 1, 9]
abbrev dktX4_execute_7 : List UInt8 := dkwX4_execute_7 ++ dktX4_execute_8
def dkwX4_execute_6 : List UInt8 := [17, 0, 213, 162, 0, 21, 42, 180, 0, 9, 29, 42, 180, 0, 13, 29, 46, 79, 132, 3, 1, 167, 255, 234]
abbrev dktX4_execute_6 : List UInt8 := dkwX4_execute_6 ++ dktX4_execute_7
def dkwX4_execute_5 : List UInt8 := [180, 1, 9, 162, 0, 61, 42, 7, 28, 104, 182, 1, 22, 42, 180, 0, 48, 158, 0, 41, 3, 62, 29]
abbrev dktX4_execute_5 : List UInt8 := dkwX4_execute_5 ++ dktX4_execute_6
def dkwX4_execute_4 : List UInt8 := [180, 0, 239, 153, 0, 17, 42, 42, 180, 0, 233, 181, 0, 22, 42, 4, 182, 0, 88, 172, 3, 61, 28, 42]
abbrev dktX4_execute_4 : List UInt8 := dkwX4_execute_4 ++ dktX4_execute_5
def dkwX4_execute_3 : List UInt8 := [42, 16, 59, 182, 0, 253, 42, 180, 0, 239, 154, 0, 7, 4, 167, 0, 4, 3, 60, 167, 255, 201, 42]
abbrev dktX4_execute_3 : List UInt8 := dkwX4_execute_3 ++ dktX4_execute_4
def dkwX4_execute_2 : List UInt8 := [154, 0, 18, 42, 180, 0, 233, 42, 180, 0, 236, 162, 0, 7, 4, 167, 0, 4, 3, 60, 27, 153, 255, 223]
abbrev dktX4_execute_2 : List UInt8 := dkwX4_execute_2 ++ dktX4_execute_3
def dkwX4_execute_1 : List UInt8 := [181, 1, 9, 42, 3, 181, 0, 239, 4, 60, 27, 153, 0, 57, 42, 182, 1, 19, 42, 180, 0, 239]
abbrev dktX4_execute_1 : List UInt8 := dkwX4_execute_1 ++ dktX4_execute_2
def dkwX4_execute_0 : List UInt8 := [42, 182, 0, 91, 42, 42, 180, 0, 230, 181, 0, 236, 42, 3, 181, 0, 230, 42, 3, 181, 0, 233, 42, 3]
abbrev dktX4_execute_0 : List UInt8 := dkwX4_execute_0 ++ dktX4_execute_1
theorem dksX4_execute_0 : cX4_execute.data.toList.drop 0 = dktX4_execute_0 := by decide +kernel
theorem dksX4_execute_1 : cX4_execute.data.toList.drop 24 = dktX4_execute_1 := dk_seg dksX4_execute_0 24 rfl rfl
theorem dksX4_execute_2 : cX4_execute.data.toList.drop 46 = dktX4_execute_2 := dk_seg dksX4_execute_1 22 rfl rfl
theorem dksX4_execute_3 : cX4_execute.data.toList.drop 70 = dktX4_execute_3 := dk_seg dksX4_execute_2 24 rfl rfl
theorem dksX4_execute_4 : cX4_execute.data.toList.drop 93 = dktX4_execute_4 := dk_seg dksX4_execute_3 23 rfl rfl
theorem dksX4_execute_5 : cX4_execute.data.toList.drop 117 = dktX4_execute_5 := dk_seg dksX4_execute_4 24 rfl rfl
theorem dksX4_execute_6 : cX4_execute.data.toList.drop 140 = dktX4_execute_6 := dk_seg dksX4_execute_5 23 rfl rfl
theorem dksX4_execute_7 : cX4_execute.data.toList.drop 164 = dktX4_execute_7 := dk_seg dksX4_execute_6 24 rfl rfl
theorem dksX4_execute_8 : cX4_execute.data.toList.drop 186 = dktX4_execute_8 := dk_seg dksX4_execute_7 22 rfl rfl
theorem dX4_execute_0 : decode cX4_execute 0 = .ok (.aload_n 0, 1) := dk_42 (dk_at dksX4_execute_0 0 rfl rfl)
theorem dX4_execute_1 : decode cX4_execute 1 = .ok (.invokevirtual 91, 3) := dk_182 0 91 (dk_at dksX4_execute_0 1 rfl rfl)
theorem dX4_execute_4 : decode cX4_execute 4 = .ok (.aload_n 0, 1) := dk_42 (dk_at dksX4_execute_0 4 rfl rfl)
theorem dX4_execute_5 : decode cX4_execute 5 = .ok (.aload_n 0, 1) := dk_42 (dk_at dksX4_execute_0 5 rfl rfl)
theorem dX4_execute_6 : decode cX4_execute 6 = .ok (.getfield 230, 3) := dk_180 0 230 (dk_at dksX4_execute_0 6 rfl rfl)
theorem dX4_execute_9 : decode cX4_execute 9 = .ok (.putfield 236, 3) := dk_181 0 236 (dk_at dksX4_execute_0 9 rfl rfl)
theorem dX4_execute_12 : decode cX4_execute 12 = .ok (.aload_n 0, 1) := dk_42 (dk_at dksX4_execute_0 12 rfl rfl)
theorem dX4_execute_13 : decode cX4_execute 13 = .ok (.iconst 0, 1) := dk_3 (dk_at dksX4_execute_0 13 rfl rfl)
theorem dX4_execute_14 : decode cX4_execute 14 = .ok (.putfield 230, 3) := dk_181 0 230 (dk_at dksX4_execute_0 14 rfl rfl)
theorem dX4_execute_17 : decode cX4_execute 17 = .ok (.aload_n 0, 1) := dk_42 (dk_at dksX4_execute_0 17 rfl rfl)
theorem dX4_execute_18 : decode cX4_execute 18 = .ok (.iconst 0, 1) := dk_3 (dk_at dksX4_execute_0 18 rfl rfl)
theorem dX4_execute_19 : decode cX4_execute 19 = .ok (.putfield 233, 3) := dk_181 0 233 (dk_at dksX4_execute_0 19 rfl rfl)
theorem dX4_execute_22 : decode cX4_execute 22 = .ok (.aload_n 0, 1) := dk_42 (dk_at dksX4_execute_0 22 rfl rfl)
theorem dX4_execute_23 : decode cX4_execute 23 = .ok (.iconst 0, 1) := dk_3 (dk_at dksX4_execute_0 23 rfl rfl)
theorem dX4_execute_24 : decode cX4_execute 24 = .ok (.putfield 265, 3) := dk_181 1 9 (dk_at dksX4_execute_1 0 rfl rfl)
theorem dX4_execute_27 : decode cX4_execute 27 = .ok (.aload_n 0, 1) := dk_42 (dk_at dksX4_execute_1 3 rfl rfl)
theorem dX4_execute_28 : decode cX4_execute 28 = .ok (.iconst 0, 1) := dk_3 (dk_at dksX4_execute_1 4 rfl rfl)
theorem dX4_execute_29 : decode cX4_execute 29 = .ok (.putfield 239, 3) := dk_181 0 239 (dk_at dksX4_execute_1 5 rfl rfl)
theorem dX4_execute_32 : decode cX4_execute 32 = .ok (.iconst 1, 1) := dk_4 (dk_at dksX4_execute_1 8 rfl rfl)
theorem dX4_execute_33 : decode cX4_execute 33 = .ok (.istore_n 1, 1) := dk_60 (dk_at dksX4_execute_1 9 rfl rfl)
theorem dX4_execute_34 : decode cX4_execute 34 = .ok (.iload_n 1, 1) := dk_27 (dk_at dksX4_execute_1 10 rfl rfl)
theorem dX4_execute_35 : decode cX4_execute 35 = .ok (.ifCond .eq 57, 3) := dk_153 0 57 (dk_at dksX4_execute_1 11 rfl rfl)
theorem dX4_execute_38 : decode cX4_execute 38 = .ok (.aload_n 0, 1) := dk_42 (dk_at dksX4_execute_1 14 rfl rfl)
theorem dX4_execute_39 : decode cX4_execute 39 = .ok (.invokevirtual 275, 3) := dk_182 1 19 (dk_at dksX4_execute_1 15 rfl rfl)
theorem dX4_execute_42 : decode cX4_execute 42 = .ok (.aload_n 0, 1) := dk_42 (dk_at dksX4_execute_1 18 rfl rfl)
theorem dX4_execute_43 : decode cX4_execute 43 = .ok (.getfield 239, 3) := dk_180 0 239 (dk_at dksX4_execute_1 19 rfl rfl)
theorem dX4_execute_46 : decode cX4_execute 46 = .ok (.ifCond .ne 18, 3) := dk_154 0 18 (dk_at dksX4_execute_2 0 rfl rfl)
theorem dX4_execute_49 : decode cX4_execute 49 = .ok (.aload_n 0, 1) := dk_42 (dk_at dksX4_execute_2 3 rfl rfl)
theorem dX4_execute_50 : decode cX4_execute 50 = .ok (.getfield 233, 3) := dk_180 0 233 (dk_at dksX4_execute_2 4 rfl rfl)
theorem dX4_execute_53 : decode cX4_execute 53 = .ok (.aload_n 0, 1) := dk_42 (dk_at dksX4_execute_2 7 rfl rfl)
theorem dX4_execute_54 : decode cX4_execute 54 = .ok (.getfield 236, 3) := dk_180 0 236 (dk_at dksX4_execute_2 8 rfl rfl)
theorem dX4_execute_57 : decode cX4_execute 57 = .ok (.if_icmp .ge 7, 3) := dk_162 0 7 (dk_at dksX4_execute_2 11 rfl rfl)
theorem dX4_execute_60 : decode cX4_execute 60 = .ok (.iconst 1, 1) := dk_4 (dk_at dksX4_execute_2 14 rfl rfl)
theorem dX4_execute_61 : decode cX4_execute 61 = .ok (.goto 4, 3) := dk_167 0 4 (dk_at dksX4_execute_2 15 rfl rfl)
theorem dX4_execute_64 : decode cX4_execute 64 = .ok (.iconst 0, 1) := dk_3 (dk_at dksX4_execute_2 18 rfl rfl)
theorem dX4_execute_65 : decode cX4_execute 65 = .ok (.istore_n 1, 1) := dk_60 (dk_at dksX4_execute_2 19 rfl rfl)
theorem dX4_execute_66 : decode cX4_execute 66 = .ok (.iload_n 1, 1) := dk_27 (dk_at dksX4_execute_2 20 rfl rfl)
theorem dX4_execute_67 : decode cX4_execute 67 = .ok (.ifCond .eq (-33), 3) := dk_153 255 223 (dk_at dksX4_execute_2 21 rfl rfl)
theorem dX4_execute_70 : decode cX4_execute 70 = .ok (.aload_n 0, 1) := dk_42 (dk_at dksX4_execute_3 0 rfl rfl)
theorem dX4_execute_71 : decode cX4_execute 71 = .ok (.bipush 59, 2) := dk_16 59 (dk_at dksX4_execute_3 1 rfl rfl)
theorem dX4_execute_73 : decode cX4_execute 73 = .ok (.invokevirtual 253, 3) := dk_182 0 253 (dk_at dksX4_execute_3 3 rfl rfl)
theorem dX4_execute_76 : decode cX4_execute 76 = .ok (.aload_n 0, 1) := dk_42 (dk_at dksX4_execute_3 6 rfl rfl)
theorem dX4_execute_77 : decode cX4_execute 77 = .ok (.getfield 239, 3) := dk_180 0 239 (dk_at dksX4_execute_3 7 rfl rfl)
theorem dX4_execute_80 : decode cX4_execute 80 = .ok (.ifCond .ne 7, 3) := dk_154 0 7 (dk_at dksX4_execute_3 10 rfl rfl)
theorem dX4_execute_83 : decode cX4_execute 83 = .ok (.iconst 1, 1) := dk_4 (dk_at dksX4_execute_3 13 rfl rfl)
theorem dX4_execute_84 : decode cX4_execute 84 = .ok (.goto 4, 3) := dk_167 0 4 (dk_at dksX4_execute_3 14 rfl rfl)
theorem dX4_execute_87 : decode cX4_execute 87 = .ok (.iconst 0, 1) := dk_3 (dk_at dksX4_execute_3 17 rfl rfl)
theorem dX4_execute_88 : decode cX4_execute 88 = .ok (.istore_n 1, 1) := dk_60 (dk_at dksX4_execute_3 18 rfl rfl)
theorem dX4_execute_89 : decode cX4_execute 89 = .ok (.goto (-55), 3) := dk_167 255 201 (dk_at dksX4_execute_3 19 rfl rfl)
theorem dX4_execute_92 : decode cX4_execute 92 = .ok (.aload_n 0, 1) := dk_42 (dk_at dksX4_execute_3 22 rfl rfl)
theorem dX4_execute_93 : decode cX4_execute 93 = .ok (.getfield 239, 3) := dk_180 0 239 (dk_at dksX4_execute_4 0 rfl rfl)
theorem dX4_execute_96 : decode cX4_execute 96 = .ok (.ifCond .eq 17, 3) := dk_153 0 17 (dk_at dksX4_execute_4 3 rfl rfl)
theorem dX4_execute_99 : decode cX4_execute 99 = .ok (.aload_n 0, 1) := dk_42 (dk_at dksX4_execute_4 6 rfl rfl)
theorem dX4_execute_100 : decode cX4_execute 100 = .ok (.aload_n 0, 1) := dk_42 (dk_at dksX4_execute_4 7 rfl rfl)
theorem dX4_execute_101 : decode cX4_execute 101 = .ok (.getfield 233, 3) := dk_180 0 233 (dk_at dksX4_execute_4 8 rfl rfl)
theorem dX4_execute_104 : decode cX4_execute 104 = .ok (.putfield 22, 3) := dk_181 0 22 (dk_at dksX4_execute_4 11 rfl rfl)
theorem dX4_execute_107 : decode cX4_execute 107 = .ok (.aload_n 0, 1) := dk_42 (dk_at dksX4_execute_4 14 rfl rfl)
theorem dX4_execute_108 : decode cX4_execute 108 = .ok (.iconst 1, 1) := dk_4 (dk_at dksX4_execute_4 15 rfl rfl)
theorem dX4_execute_109 : decode cX4_execute 109 = .ok (.invokevirtual 88, 3) := dk_182 0 88 (dk_at dksX4_execute_4 16 rfl rfl)
theorem dX4_execute_112 : decode cX4_execute 112 = .ok (.ireturn, 1) := dk_172 (dk_at dksX4_execute_4 19 rfl rfl)
theorem dX4_execute_113 : decode cX4_execute 113 = .ok (.iconst 0, 1) := dk_3 (dk_at dksX4_execute_4 20 rfl rfl)
theorem dX4_execute_114 : decode cX4_execute 114 = .ok (.istore_n 2, 1) := dk_61 (dk_at dksX4_execute_4 21 rfl rfl)
theorem dX4_execute_115 : decode cX4_execute 115 = .ok (.iload_n 2, 1) := dk_28 (dk_at dksX4_execute_4 22 rfl rfl)
theorem dX4_execute_116 : decode cX4_execute 116 = .ok (.aload_n 0, 1) := dk_42 (dk_at dksX4_execute_4 23 rfl rfl)
theorem dX4_execute_117 : decode cX4_execute 117 = .ok (.getfield 265, 3) := dk_180 1 9 (dk_at dksX4_execute_5 0 rfl rfl)
theorem dX4_execute_120 : decode cX4_execute 120 = .ok (.if_icmp .ge 61, 3) := dk_162 0 61 (dk_at dksX4_execute_5 3 rfl rfl)
theorem dX4_execute_123 : decode cX4_execute 123 = .ok (.aload_n 0, 1) := dk_42 (dk_at dksX4_execute_5 6 rfl rfl)
theorem dX4_execute_124 : decode cX4_execute 124 = .ok (.iconst 4, 1) := dk_7 (dk_at dksX4_execute_5 7 rfl rfl)
theorem dX4_execute_125 : decode cX4_execute 125 = .ok (.iload_n 2, 1) := dk_28 (dk_at dksX4_execute_5 8 rfl rfl)
theorem dX4_execute_126 : decode cX4_execute 126 = .ok (.imul, 1) := dk_104 (dk_at dksX4_execute_5 9 rfl rfl)
theorem dX4_execute_127 : decode cX4_execute 127 = .ok (.invokevirtual 278, 3) := dk_182 1 22 (dk_at dksX4_execute_5 10 rfl rfl)
theorem dX4_execute_130 : decode cX4_execute 130 = .ok (.aload_n 0, 1) := dk_42 (dk_at dksX4_execute_5 13 rfl rfl)
theorem dX4_execute_131 : decode cX4_execute 131 = .ok (.getfield 48, 3) := dk_180 0 48 (dk_at dksX4_execute_5 14 rfl rfl)
theorem dX4_execute_134 : decode cX4_execute 134 = .ok (.ifCond .le 41, 3) := dk_158 0 41 (dk_at dksX4_execute_5 17 rfl rfl)
theorem dX4_execute_137 : decode cX4_execute 137 = .ok (.iconst 0, 1) := dk_3 (dk_at dksX4_execute_5 20 rfl rfl)
theorem dX4_execute_138 : decode cX4_execute 138 = .ok (.istore_n 3, 1) := dk_62 (dk_at dksX4_execute_5 21 rfl rfl)
theorem dX4_execute_139 : decode cX4_execute 139 = .ok (.iload_n 3, 1) := dk_29 (dk_at dksX4_execute_5 22 rfl rfl)
theorem dX4_execute_140 : decode cX4_execute 140 = .ok (.sipush 213, 3) := dk_17 0 213 (dk_at dksX4_execute_6 0 rfl rfl)
theorem dX4_execute_143 : decode cX4_execute 143 = .ok (.if_icmp .ge 21, 3) := dk_162 0 21 (dk_at dksX4_execute_6 3 rfl rfl)
theorem dX4_execute_146 : decode cX4_execute 146 = .ok (.aload_n 0, 1) := dk_42 (dk_at dksX4_execute_6 6 rfl rfl)
theorem dX4_execute_147 : decode cX4_execute 147 = .ok (.getfield 9, 3) := dk_180 0 9 (dk_at dksX4_execute_6 7 rfl rfl)
theorem dX4_execute_150 : decode cX4_execute 150 = .ok (.iload_n 3, 1) := dk_29 (dk_at dksX4_execute_6 10 rfl rfl)
theorem dX4_execute_151 : decode cX4_execute 151 = .ok (.aload_n 0, 1) := dk_42 (dk_at dksX4_execute_6 11 rfl rfl)
theorem dX4_execute_152 : decode cX4_execute 152 = .ok (.getfield 13, 3) := dk_180 0 13 (dk_at dksX4_execute_6 12 rfl rfl)
theorem dX4_execute_155 : decode cX4_execute 155 = .ok (.iload_n 3, 1) := dk_29 (dk_at dksX4_execute_6 15 rfl rfl)
theorem dX4_execute_156 : decode cX4_execute 156 = .ok (.iaload, 1) := dk_46 (dk_at dksX4_execute_6 16 rfl rfl)
theorem dX4_execute_157 : decode cX4_execute 157 = .ok (.iastore, 1) := dk_79 (dk_at dksX4_execute_6 17 rfl rfl)
theorem dX4_execute_158 : decode cX4_execute 158 = .ok (.iinc 3 1, 3) := dk_132 3 1 (dk_at dksX4_execute_6 18 rfl rfl)
theorem dX4_execute_161 : decode cX4_execute 161 = .ok (.goto (-22), 3) := dk_167 255 234 (dk_at dksX4_execute_6 21 rfl rfl)
theorem dX4_execute_164 : decode cX4_execute 164 = .ok (.aload_n 0, 1) := dk_42 (dk_at dksX4_execute_7 0 rfl rfl)
theorem dX4_execute_165 : decode cX4_execute 165 = .ok (.iload_n 2, 1) := dk_28 (dk_at dksX4_execute_7 1 rfl rfl)
theorem dX4_execute_166 : decode cX4_execute 166 = .ok (.putfield 26, 3) := dk_181 0 26 (dk_at dksX4_execute_7 2 rfl rfl)
theorem dX4_execute_169 : decode cX4_execute 169 = .ok (.aload_n 0, 1) := dk_42 (dk_at dksX4_execute_7 5 rfl rfl)
theorem dX4_execute_170 : decode cX4_execute 170 = .ok (.iconst 2, 1) := dk_5 (dk_at dksX4_execute_7 6 rfl rfl)
theorem dX4_execute_171 : decode cX4_execute 171 = .ok (.invokevirtual 88, 3) := dk_182 0 88 (dk_at dksX4_execute_7 7 rfl rfl)
theorem dX4_execute_174 : decode cX4_execute 174 = .ok (.ireturn, 1) := dk_172 (dk_at dksX4_execute_7 10 rfl rfl)
theorem dX4_execute_175 : decode cX4_execute 175 = .ok (.iinc 2 1, 3) := dk_132 2 1 (dk_at dksX4_execute_7 11 rfl rfl)
theorem dX4_execute_178 : decode cX4_execute 178 = .ok (.goto (-63), 3) := dk_167 255 193 (dk_at dksX4_execute_7 14 rfl rfl)
theorem dX4_execute_181 : decode cX4_execute 181 = .ok (.aload_n 0, 1) := dk_42 (dk_at dksX4_execute_7 17 rfl rfl)
theorem dX4_execute_182 : decode cX4_execute 182 = .ok (.aload_n 0, 1) := dk_42 (dk_at dksX4_execute_7 18 rfl rfl)
theorem dX4_execute_183 : decode cX4_execute 183 = .ok (.getfield 265, 3) := dk_180 1 9 (dk_at dksX4_execute_7 19 rfl rfl)
theorem dX4_execute_186 : decode cX4_execute 186 = .ok (.invokevirtual 98, 3) := dk_182 0 98 (dk_at dksX4_execute_8 0 rfl rfl)
theorem dX4_execute_189 : decode cX4_execute 189 = .ok (.ireturn, 1) := dk_172 (dk_at dksX4_execute_8 3 rfl rfl)
def dkwX4_readCommand_5 : List UInt8 := [177]
abbrev dktX4_readCommand_5 : List UInt8 := dkwX4_readCommand_5 ++ []
def dkwX4_readCommand_4 : List UInt8 := [180, 0, 45, 27, 28, 79, 42, 89, 180, 1, 9, 4, 96, 181, 1, 9, 42, 28, 27, 4, 96, 182, 1, 15]
abbrev dktX4_readCommand_4 : List UInt8 := dkwX4_readCommand_4 ++ dktX4_readCommand_5
def dkwX4_readCommand_3 : List UInt8 := [28, 46, 100, 162, 0, 7, 4, 167, 0, 4, 3, 181, 0, 239, 42, 180, 0, 239, 154, 0, 28, 42]
abbrev dktX4_readCommand_3 : List UInt8 := dkwX4_readCommand_3 ++ dktX4_readCommand_4
def dkwX4_readCommand_2 : List UInt8 := [42, 89, 180, 0, 233, 29, 96, 181, 0, 233, 42, 29, 42, 180, 0, 42, 28, 4, 96, 46, 42, 180, 0, 42]
abbrev dktX4_readCommand_2 : List UInt8 := dkwX4_readCommand_2 ++ dktX4_readCommand_3
def dkwX4_readCommand_1 : List UInt8 := [182, 1, 12, 164, 0, 7, 29, 167, 0, 4, 28, 61, 132, 3, 1, 167, 255, 228, 42, 28, 182, 1, 12, 62]
abbrev dktX4_readCommand_1 : List UInt8 := dkwX4_readCommand_1 ++ dktX4_readCommand_2
def dkwX4_readCommand_0 : List UInt8 := [7, 42, 180, 1, 9, 104, 60, 3, 61, 4, 62, 29, 16, 11, 162, 0, 28, 42, 29, 182, 1, 12, 42, 28]
abbrev dktX4_readCommand_0 : List UInt8 := dkwX4_readCommand_0 ++ dktX4_readCommand_1
theorem dksX4_readCommand_0 : cX4_readCommand.data.toList.drop 0 = dktX4_readCommand_0 := by decide +kernel
theorem dksX4_readCommand_1 : cX4_readCommand.data.toList.drop 24 = dktX4_readCommand_1 := dk_seg dksX4_readCommand_0 24 rfl rfl
theorem dksX4_readCommand_2 : cX4_readCommand.data.toList.drop 48 = dktX4_readCommand_2 := dk_seg dksX4_readCommand_1 24 rfl rfl
theorem dksX4_readCommand_3 : cX4_readCommand.data.toList.drop 72 = dktX4_readCommand_3 := dk_seg dksX4_readCommand_2 24 rfl rfl
theorem dksX4_readCommand_4 : cX4_readCommand.data.toList.drop 94 = dktX4_readCommand_4 := dk_seg dksX4_readCommand_3 22 rfl rfl
theorem dksX4_readCommand_5 : cX4_readCommand.data.toList.drop 118 = dktX4_readCommand_5 := dk_seg dksX4_readCommand_4 24 rfl rfl
theorem dX4_readCommand_0 : decode cX4_readCommand 0 = .ok (.iconst 4, 1) := dk_7 (dk_at dksX4_readCommand_0 0 rfl rfl)
theorem dX4_readCommand_1 : decode cX4_readCommand 1 = .ok (.aload_n 0, 1) := dk_42 (dk_at dksX4_readCommand_0 1 rfl rfl)
theorem dX4_readCommand_2 : decode cX4_readCommand 2 = .ok (.getfield 265, 3) := dk_180 1 9 (dk_at dksX4_readCommand_0 2 rfl rfl)
theorem dX4_readCommand_5 : decode cX4_readCommand 5 = .ok (.imul, 1) := dk_104 (dk_at dksX4_readCommand_0 5 rfl rfl)
theorem dX4_readCommand_6 : decode cX4_readCommand 6 = .ok (.istore_n 1, 1) := dk_60 (dk_at dksX4_readCommand_0 6 rfl rfl)
theorem dX4_readCommand_7 : decode cX4_readCommand 7 = .ok (.iconst 0, 1) := dk_3 (dk_at dksX4_readCommand_0 7 rfl rfl)
theorem dX4_readCommand_8 : decode cX4_readCommand 8 = .ok (.istore_n 2, 1) := dk_61 (dk_at dksX4_readCommand_0 8 rfl rfl)
theorem dX4_readCommand_9 : decode cX4_readCommand 9 = .ok (.iconst 1, 1) := dk_4 (dk_at dksX4_readCommand_0 9 rfl rfl)
theorem dX4_readCommand_10 : decode cX4_readCommand 10 = .ok (.istore_n 3, 1) := dk_62 (dk_at dksX4_readCommand_0 10 rfl rfl)
theorem dX4_readCommand_11 : decode cX4_readCommand 11 = .ok (.iload_n 3, 1) := dk_29 (dk_at dksX4_readCommand_0 11 rfl rfl)
theorem dX4_readCommand_12 : decode cX4_readCommand 12 = .ok (.bipush 11, 2) := dk_16 11 (dk_at dksX4_readCommand_0 12 rfl rfl)
theorem dX4_readCommand_14 : decode cX4_readCommand 14 = .ok (.if_icmp .ge 28, 3) := dk_162 0 28 (dk_at dksX4_readCommand_0 14 rfl rfl)
theorem dX4_readCommand_17 : decode cX4_readCommand 17 = .ok (.aload_n 0, 1) := dk_42 (dk_at dksX4_readCommand_0 17 rfl rfl)
theorem dX4_readCommand_18 : decode cX4_readCommand 18 = .ok (.iload_n 3, 1) := dk_29 (dk_at dksX4_readCommand_0 18 rfl rfl)
theorem dX4_readCommand_19 : decode cX4_readCommand 19 = .ok (.invokevirtual 268, 3) := dk_182 1 12 (dk_at dksX4_readCommand_0 19 rfl rfl)
theorem dX4_readCommand_22 : decode cX4_readCommand 22 = .ok (.aload_n 0, 1) := dk_42 (dk_at dksX4_readCommand_0 22 rfl rfl)
theorem dX4_readCommand_23 : decode cX4_readCommand 23 = .ok (.iload_n 2, 1) := dk_28 (dk_at dksX4_readCommand_0 23 rfl rfl)
theorem dX4_readCommand_24 : decode cX4_readCommand 24 = .ok (.invokevirtual 268, 3) := dk_182 1 12 (dk_at dksX4_readCommand_1 0 rfl rfl)
theorem dX4_readCommand_27 : decode cX4_readCommand 27 = .ok (.if_icmp .le 7, 3) := dk_164 0 7 (dk_at dksX4_readCommand_1 3 rfl rfl)
theorem dX4_readCommand_30 : decode cX4_readCommand 30 = .ok (.iload_n 3, 1) := dk_29 (dk_at dksX4_readCommand_1 6 rfl rfl)
theorem dX4_readCommand_31 : decode cX4_readCommand 31 = .ok (.goto 4, 3) := dk_167 0 4 (dk_at dksX4_readCommand_1 7 rfl rfl)
theorem dX4_readCommand_34 : decode cX4_readCommand 34 = .ok (.iload_n 2, 1) := dk_28 (dk_at dksX4_readCommand_1 10 rfl rfl)
theorem dX4_readCommand_35 : decode cX4_readCommand 35 = .ok (.istore_n 2, 1) := dk_61 (dk_at dksX4_readCommand_1 11 rfl rfl)
theorem dX4_readCommand_36 : decode cX4_readCommand 36 = .ok (.iinc 3 1, 3) := dk_132 3 1 (dk_at dksX4_readCommand_1 12 rfl rfl)
theorem dX4_readCommand_39 : decode cX4_readCommand 39 = .ok (.goto (-28), 3) := dk_167 255 228 (dk_at dksX4_readCommand_1 15 rfl rfl)
theorem dX4_readCommand_42 : decode cX4_readCommand 42 = .ok (.aload_n 0, 1) := dk_42 (dk_at dksX4_readCommand_1 18 rfl rfl)
theorem dX4_readCommand_43 : decode cX4_readCommand 43 = .ok (.iload_n 2, 1) := dk_28 (dk_at dksX4_readCommand_1 19 rfl rfl)
theorem dX4_readCommand_44 : decode cX4_readCommand 44 = .ok (.invokevirtual 268, 3) := dk_182 1 12 (dk_at dksX4_readCommand_1 20 rfl rfl)
theorem dX4_readCommand_47 : decode cX4_readCommand 47 = .ok (.istore_n 3, 1) := dk_62 (dk_at dksX4_readCommand_1 23 rfl rfl)
theorem dX4_readCommand_48 : decode cX4_readCommand 48 = .ok (.aload_n 0, 1) := dk_42 (dk_at dksX4_readCommand_2 0 rfl rfl)
theorem dX4_readCommand_49 : decode cX4_readCommand 49 = .ok (.dup, 1) := dk_89 (dk_at dksX4_readCommand_2 1 rfl rfl)
theorem dX4_readCommand_50 : decode cX4_readCommand 50 = .ok (.getfield 233, 3) := dk_180 0 233 (dk_at dksX4_readCommand_2 2 rfl rfl)
theorem dX4_readCommand_53 : decode cX4_readCommand 53 = .ok (.iload_n 3, 1) := dk_29 (dk_at dksX4_readCommand_2 5 rfl rfl)
theorem dX4_readCommand_54 : decode cX4_readCommand 54 = .ok (.iadd, 1) := dk_96 (dk_at dksX4_readCommand_2 6 rfl rfl)
theorem dX4_readCommand_55 : decode cX4_readCommand 55 = .ok (.putfield 233, 3) := dk_181 0 233 (dk_at dksX4_readCommand_2 7 rfl rfl)
theorem dX4_readCommand_58 : decode cX4_readCommand 58 = .ok (.aload_n 0, 1) := dk_42 (dk_at dksX4_readCommand_2 10 rfl rfl)
theorem dX4_readCommand_59 : decode cX4_readCommand 59 = .ok (.iload_n 3, 1) := dk_29 (dk_at dksX4_readCommand_2 11 rfl rfl)
theorem dX4_readCommand_60 : decode cX4_readCommand 60 = .ok (.aload_n 0, 1) := dk_42 (dk_at dksX4_readCommand_2 12 rfl rfl)
theorem dX4_readCommand_61 : decode cX4_readCommand 61 = .ok (.getfield 42, 3) := dk_180 0 42 (dk_at dksX4_readCommand_2 13 rfl rfl)
theorem dX4_readCommand_64 : decode cX4_readCommand 64 = .ok (.iload_n 2, 1) := dk_28 (dk_at dksX4_readCommand_2 16 rfl rfl)
theorem dX4_readCommand_65 : decode cX4_readCommand 65 = .ok (.iconst 1, 1) := dk_4 (dk_at dksX4_readCommand_2 17 rfl rfl)
theorem dX4_readCommand_66 : decode cX4_readCommand 66 = .ok (.iadd, 1) := dk_96 (dk_at dksX4_readCommand_2 18 rfl rfl)
theorem dX4_readCommand_67 : decode cX4_readCommand 67 = .ok (.iaload, 1) := dk_46 (dk_at dksX4_readCommand_2 19 rfl rfl)
theorem dX4_readCommand_68 : decode cX4_readCommand 68 = .ok (.aload_n 0, 1) := dk_42 (dk_at dksX4_readCommand_2 20 rfl rfl)
theorem dX4_readCommand_69 : decode cX4_readCommand 69 = .ok (.getfield 42, 3) := dk_180 0 42 (dk_at dksX4_readCommand_2 21 rfl rfl)
theorem dX4_readCommand_72 : decode cX4_readCommand 72 = .ok (.iload_n 2, 1) := dk_28 (dk_at dksX4_readCommand_3 0 rfl rfl)
theorem dX4_readCommand_73 : decode cX4_readCommand 73 = .ok (.iaload, 1) := dk_46 (dk_at dksX4_readCommand_3 1 rfl rfl)
theorem dX4_readCommand_74 : decode cX4_readCommand 74 = .ok (.isub, 1) := dk_100 (dk_at dksX4_readCommand_3 2 rfl rfl)
theorem dX4_readCommand_75 : decode cX4_readCommand 75 = .ok (.if_icmp .ge 7, 3) := dk_162 0 7 (dk_at dksX4_readCommand_3 3 rfl rfl)
theorem dX4_readCommand_78 : decode cX4_readCommand 78 = .ok (.iconst 1, 1) := dk_4 (dk_at dksX4_readCommand_3 6 rfl rfl)
theorem dX4_readCommand_79 : decode cX4_readCommand 79 = .ok (.goto 4, 3) := dk_167 0 4 (dk_at dksX4_readCommand_3 7 rfl rfl)
theorem dX4_readCommand_82 : decode cX4_readCommand 82 = .ok (.iconst 0, 1) := dk_3 (dk_at dksX4_readCommand_3 10 rfl rfl)
theorem dX4_readCommand_83 : decode cX4_readCommand 83 = .ok (.putfield 239, 3) := dk_181 0 239 (dk_at dksX4_readCommand_3 11 rfl rfl)
theorem dX4_readCommand_86 : decode cX4_readCommand 86 = .ok (.aload_n 0, 1) := dk_42 (dk_at dksX4_readCommand_3 14 rfl rfl)
theorem dX4_readCommand_87 : decode cX4_readCommand 87 = .ok (.getfield 239, 3) := dk_180 0 239 (dk_at dksX4_readCommand_3 15 rfl rfl)
theorem dX4_readCommand_90 : decode cX4_readCommand 90 = .ok (.ifCond .ne 28, 3) := dk_154 0 28 (dk_at dksX4_readCommand_3 18 rfl rfl)
theorem dX4_readCommand_93 : decode cX4_readCommand 93 = .ok (.aload_n 0, 1) := dk_42 (dk_at dksX4_readCommand_3 21 rfl rfl)
theorem dX4_readCommand_94 : decode cX4_readCommand 94 = .ok (.getfield 45, 3) := dk_180 0 45 (dk_at dksX4_readCommand_4 0 rfl rfl)
theorem dX4_readCommand_97 : decode cX4_readCommand 97 = .ok (.iload_n 1, 1) := dk_27 (dk_at dksX4_readCommand_4 3 rfl rfl)
theorem dX4_readCommand_98 : decode cX4_readCommand 98 = .ok (.iload_n 2, 1) := dk_28 (dk_at dksX4_readCommand_4 4 rfl rfl)
theorem dX4_readCommand_99 : decode cX4_readCommand 99 = .ok (.iastore, 1) := dk_79 (dk_at dksX4_readCommand_4 5 rfl rfl)
theorem dX4_readCommand_100 : decode cX4_readCommand 100 = .ok (.aload_n 0, 1) := dk_42 (dk_at dksX4_readCommand_4 6 rfl rfl)
theorem dX4_readCommand_101 : decode cX4_readCommand 101 = .ok (.dup, 1) := dk_89 (dk_at dksX4_readCommand_4 7 rfl rfl)
theorem dX4_readCommand_102 : decode cX4_readCommand 102 = .ok (.getfield 265, 3) := dk_180 1 9 (dk_at dksX4_readCommand_4 8 rfl rfl)
theorem dX4_readCommand_105 : decode cX4_readCommand 105 = .ok (.iconst 1, 1) := dk_4 (dk_at dksX4_readCommand_4 11 rfl rfl)
theorem dX4_readCommand_106 : decode cX4_readCommand 106 = .ok (.iadd, 1) := dk_96 (dk_at dksX4_readCommand_4 12 rfl rfl)
theorem dX4_readCommand_107 : decode cX4_readCommand 107 = .ok (.putfield 265, 3) := dk_181 1 9 (dk_at dksX4_readCommand_4 13 rfl rfl)
theorem dX4_readCommand_110 : decode cX4_readCommand 110 = .ok (.aload_n 0, 1) := dk_42 (dk_at dksX4_readCommand_4 16 rfl rfl)
theorem dX4_readCommand_111 : decode cX4_readCommand 111 = .ok (.iload_n 2, 1) := dk_28 (dk_at dksX4_readCommand_4 17 rfl rfl)
theorem dX4_readCommand_112 : decode cX4_readCommand 112 = .ok (.iload_n 1, 1) := dk_27 (dk_at dksX4_readCommand_4 18 rfl rfl)
theorem dX4_readCommand_113 : decode cX4_readCommand 113 = .ok (.iconst 1, 1) := dk_4 (dk_at dksX4_readCommand_4 19 rfl rfl)
theorem dX4_readCommand_114 : decode cX4_readCommand 114 = .ok (.iadd, 1) := dk_96 (dk_at dksX4_readCommand_4 20 rfl rfl)
theorem dX4_readCommand_115 : decode cX4_readCommand 115 = .ok (.invokevirtual 271, 3) := dk_182 1 15 (dk_at dksX4_readCommand_4 21 rfl rfl)
theorem dX4_readCommand_118 : decode cX4_readCommand 118 = .ok (.return_, 1) := dk_177 (dk_at dksX4_readCommand_5 0 rfl rfl)
def dkwX4_likeness_2 : List UInt8 := [180, 0, 38, 42, 180, 0, 42, 27, 46, 28, 96, 52, 160, 0, 9, 132, 2, 1, 167, 255, 208, 28, 172]
abbrev dktX4_likeness_2 : List UInt8 := dkwX4_likeness_2 ++ []
def dkwX4_likeness_1 : List UInt8 := [180, 0, 233, 28, 96, 42, 180, 0, 236, 162, 0, 36, 42, 180, 0, 29, 42, 180, 0, 233, 28, 96, 46, 42]
abbrev dktX4_likeness_1 : List UInt8 := dkwX4_likeness_1 ++ dktX4_likeness_2
def dkwX4_likeness_0 : List UInt8 := [3, 61, 42, 180, 0, 42, 27, 4, 96, 46, 42, 180, 0, 42, 27, 46, 100, 62, 28, 29, 162, 0, 49, 42]
abbrev dktX4_likeness_0 : List UInt8 := dkwX4_likeness_0 ++ dktX4_likeness_1
theorem dksX4_likeness_0 : cX4_likeness.data.toList.drop 0 = dktX4_likeness_0 := by decide +kernel
theorem dksX4_likeness_1 : cX4_likeness.data.toList.drop 24 = dktX4_likeness_1 := dk_seg dksX4_likeness_0 24 rfl rfl
theorem dksX4_likeness_2 : cX4_likeness.data.toList.drop 48 = dktX4_likeness_2 := dk_seg dksX4_likeness_1 24 rfl rfl
theorem dX4_likeness_0 : decode cX4_likeness 0 = .ok (.iconst 0, 1) := dk_3 (dk_at dksX4_likeness_0 0 rfl rfl)
theorem dX4_likeness_1 : decode cX4_likeness 1 = .ok (.istore_n 2, 1) := dk_61 (dk_at dksX4_likeness_0 1 rfl rfl)
theorem dX4_likeness_2 : decode cX4_likeness 2 = .ok (.aload_n 0, 1) := dk_42 (dk_at dksX4_likeness_0 2 rfl rfl)
theorem dX4_likeness_3 : decode cX4_likeness 3 = .ok (.getfield 42, 3) := dk_180 0 42 (dk_at dksX4_likeness_0 3 rfl rfl)
theorem dX4_likeness_6 : decode cX4_likeness 6 = .ok (.iload_n 1, 1) := dk_27 (dk_at dksX4_likeness_0 6 rfl rfl)
theorem dX4_likeness_7 : decode cX4_likeness 7 = .ok (.iconst 1, 1) := dk_4 (dk_at dksX4_likeness_0 7 rfl rfl)
theorem dX4_likeness_8 : decode cX4_likeness 8 = .ok (.iadd, 1) := dk_96 (dk_at dksX4_likeness_0 8 rfl rfl)
theorem dX4_likeness_9 : decode cX4_likeness 9 = .ok (.iaload, 1) := dk_46 (dk_at dksX4_likeness_0 9 rfl rfl)
theorem dX4_likeness_10 : decode cX4_likeness 10 = .ok (.aload_n 0, 1) := dk_42 (dk_at dksX4_likeness_0 10 rfl rfl)
theorem dX4_likeness_11 : decode cX4_likeness 11 = .ok (.getfield 42, 3) := dk_180 0 42 (dk_at dksX4_likeness_0 11 rfl rfl)
theorem dX4_likeness_14 : decode cX4_likeness 14 = .ok (.iload_n 1, 1) := dk_27 (dk_at dksX4_likeness_0 14 rfl rfl)
theorem dX4_likeness_15 : decode cX4_likeness 15 = .ok (.iaload, 1) := dk_46 (dk_at dksX4_likeness_0 15 rfl rfl)
theorem dX4_likeness_16 : decode cX4_likeness 16 = .ok (.isub, 1) := dk_100 (dk_at dksX4_likeness_0 16 rfl rfl)
theorem dX4_likeness_17 : decode cX4_likeness 17 = .ok (.istore_n 3, 1) := dk_62 (dk_at dksX4_likeness_0 17 rfl rfl)
theorem dX4_likeness_18 : decode cX4_likeness 18 = .ok (.iload_n 2, 1) := dk_28 (dk_at dksX4_likeness_0 18 rfl rfl)
theorem dX4_likeness_19 : decode cX4_likeness 19 = .ok (.iload_n 3, 1) := dk_29 (dk_at dksX4_likeness_0 19 rfl rfl)
theorem dX4_likeness_20 : decode cX4_likeness 20 = .ok (.if_icmp .ge 49, 3) := dk_162 0 49 (dk_at dksX4_likeness_0 20 rfl rfl)
theorem dX4_likeness_23 : decode cX4_likeness 23 = .ok (.aload_n 0, 1) := dk_42 (dk_at dksX4_likeness_0 23 rfl rfl)
theorem dX4_likeness_24 : decode cX4_likeness 24 = .ok (.getfield 233, 3) := dk_180 0 233 (dk_at dksX4_likeness_1 0 rfl rfl)
theorem dX4_likeness_27 : decode cX4_likeness 27 = .ok (.iload_n 2, 1) := dk_28 (dk_at dksX4_likeness_1 3 rfl rfl)
theorem dX4_likeness_28 : decode cX4_likeness 28 = .ok (.iadd, 1) := dk_96 (dk_at dksX4_likeness_1 4 rfl rfl)
theorem dX4_likeness_29 : decode cX4_likeness 29 = .ok (.aload_n 0, 1) := dk_42 (dk_at dksX4_likeness_1 5 rfl rfl)
theorem dX4_likeness_30 : decode cX4_likeness 30 = .ok (.getfield 236, 3) := dk_180 0 236 (dk_at dksX4_likeness_1 6 rfl rfl)
theorem dX4_likeness_33 : decode cX4_likeness 33 = .ok (.if_icmp .ge 36, 3) := dk_162 0 36 (dk_at dksX4_likeness_1 9 rfl rfl)
theorem dX4_likeness_36 : decode cX4_likeness 36 = .ok (.aload_n 0, 1) := dk_42 (dk_at dksX4_likeness_1 12 rfl rfl)
theorem dX4_likeness_37 : decode cX4_likeness 37 = .ok (.getfield 29, 3) := dk_180 0 29 (dk_at dksX4_likeness_1 13 rfl rfl)
theorem dX4_likeness_40 : decode cX4_likeness 40 = .ok (.aload_n 0, 1) := dk_42 (dk_at dksX4_likeness_1 16 rfl rfl)
theorem dX4_likeness_41 : decode cX4_likeness 41 = .ok (.getfield 233, 3) := dk_180 0 233 (dk_at dksX4_likeness_1 17 rfl rfl)
theorem dX4_likeness_44 : decode cX4_likeness 44 = .ok (.iload_n 2, 1) := dk_28 (dk_at dksX4_likeness_1 20 rfl rfl)
theorem dX4_likeness_45 : decode cX4_likeness 45 = .ok (.iadd, 1) := dk_96 (dk_at dksX4_likeness_1 21 rfl rfl)
theorem dX4_likeness_46 : decode cX4_likeness 46 = .ok (.iaload, 1) := dk_46 (dk_at dksX4_likeness_1 22 rfl rfl)
theorem dX4_likeness_47 : decode cX4_likeness 47 = .ok (.aload_n 0, 1) := dk_42 (dk_at dksX4_likeness_1 23 rfl rfl)
theorem dX4_likeness_48 : decode cX4_likeness 48 = .ok (.getfield 38, 3) := dk_180 0 38 (dk_at dksX4_likeness_2 0 rfl rfl)
theorem dX4_likeness_51 : decode cX4_likeness 51 = .ok (.aload_n 0, 1) := dk_42 (dk_at dksX4_likeness_2 3 rfl rfl)
theorem dX4_likeness_52 : decode cX4_likeness 52 = .ok (.getfield 42, 3) := dk_180 0 42 (dk_at dksX4_likeness_2 4 rfl rfl)
theorem dX4_likeness_55 : decode cX4_likeness 55 = .ok (.iload_n 1, 1) := dk_27 (dk_at dksX4_likeness_2 7 rfl rfl)
theorem dX4_likeness_56 : decode cX4_likeness 56 = .ok (.iaload, 1) := dk_46 (dk_at dksX4_likeness_2 8 rfl rfl)
theorem dX4_likeness_57 : decode cX4_likeness 57 = .ok (.iload_n 2, 1) := dk_28 (dk_at dksX4_likeness_2 9 rfl rfl)
theorem dX4_likeness_58 : decode cX4_likeness 58 = .ok (.iadd, 1) := dk_96 (dk_at dksX4_likeness_2 10 rfl rfl)
theorem dX4_likeness_59 : decode cX4_likeness 59 = .ok (.caload, 1) := dk_52 (dk_at dksX4_likeness_2 11 rfl rfl)
theorem dX4_likeness_60 : decode cX4_likeness 60 = .ok (.if_icmp .ne 9, 3) := dk_160 0 9 (dk_at dksX4_likeness_2 12 rfl rfl)
theorem dX4_likeness_63 : decode cX4_likeness 63 = .ok (.iinc 2 1, 3) := dk_132 2 1 (dk_at dksX4_likeness_2 15 rfl rfl)
theorem dX4_likeness_66 : decode cX4_likeness 66 = .ok (.goto (-48), 3) := dk_167 255 208 (dk_at dksX4_likeness_2 18 rfl rfl)
theorem dX4_likeness_69 : decode cX4_likeness 69 = .ok (.iload_n 2, 1) := dk_28 (dk_at dksX4_likeness_2 21 rfl rfl)
theorem dX4_likeness_70 : decode cX4_likeness 70 = .ok (.ireturn, 1) := dk_172 (dk_at dksX4_likeness_2 22 rfl rfl)
def dkwX4_readArguments_6 : List UInt8 := [16, 32, 182, 1, 3, 79, 42, 180, 0, 45, 28, 5, 96, 42, 16, 32, 182, 1, 3, 79, 167, 0, 3, 177]
abbrev dktX4_readArguments_6 : List UInt8 := dkwX4_readArguments_6 ++ []
def dkwX4_readArguments_5 : List UInt8 := [42, 180, 0, 45, 28, 4, 96, 42, 182, 1, 6, 79, 167, 0, 34, 42, 180, 0, 45, 28, 4, 96, 42]
abbrev dktX4_readArguments_5 : List UInt8 := dkwX4_readArguments_5 ++ dktX4_readArguments_6
def dkwX4_readArguments_4 : List UInt8 := [182, 1, 3, 79, 167, 0, 66, 42, 180, 0, 45, 28, 4, 96, 42, 16, 32, 182, 1, 3, 79, 167, 0, 49]
abbrev dktX4_readArguments_4 : List UInt8 := dkwX4_readArguments_4 ++ dktX4_readArguments_5
def dkwX4_readArguments_3 : List UInt8 := [42, 180, 0, 45, 28, 4, 96, 42, 16, 32, 182, 1, 3, 79, 42, 180, 0, 45, 28, 5, 96, 42, 16, 47]
abbrev dktX4_readArguments_3 : List UInt8 := dkwX4_readArguments_3 ++ dktX4_readArguments_4
def dkwX4_readArguments_2 : List UInt8 := [170, 0, 0, 0, 0, 0, 0, 150, 0, 0, 0, 1, 0, 0, 0, 10, 0, 0, 0, 56, 0, 0, 0, 150, 0, 0, 0, 87, 0, 0, 0, 150, 0, 0, 0, 104, 0, 0, 0, 87, 0, 0, 0, 150, 0, 0, 0, 87, 0, 0, 0, 119, 0, 0, 0, 104]
abbrev dktX4_readArguments_2 : List UInt8 := dkwX4_readArguments_2 ++ dktX4_readArguments_3
def dkwX4_readArguments_1 : List UInt8 := [159, 0, 9, 27, 16, 10, 160, 0, 10, 42, 182, 1, 0, 167, 0, 7, 42, 182, 0, 250, 79, 27]
abbrev dktX4_readArguments_1 : List UInt8 := dkwX4_readArguments_1 ++ dktX4_readArguments_2
def dkwX4_readArguments_0 : List UInt8 := [42, 180, 0, 45, 28, 27, 154, 0, 7, 3, 167, 0, 32, 27, 16, 7, 159, 0, 15, 27, 16, 8]
abbrev dktX4_readArguments_0 : List UInt8 := dkwX4_readArguments_0 ++ dktX4_readArguments_1
theorem dksX4_readArguments_0 : cX4_readArguments.data.toList.drop 0 = dktX4_readArguments_0 := by decide +kernel
theorem dksX4_readArguments_1 : cX4_readArguments.data.toList.drop 22 = dktX4_readArguments_1 := dk_seg dksX4_readArguments_0 22 rfl rfl
theorem dksX4_readArguments_2 : cX4_readArguments.data.toList.drop 44 = dktX4_readArguments_2 := dk_seg dksX4_readArguments_1 22 rfl rfl
theorem dksX4_readArguments_3 : cX4_readArguments.data.toList.drop 100 = dktX4_readArguments_3 := dk_seg dksX4_readArguments_2 56 rfl rfl
theorem dksX4_readArguments_4 : cX4_readArguments.data.toList.drop 124 = dktX4_readArguments_4 := dk_seg dksX4_readArguments_3 24 rfl rfl
theorem dksX4_readArguments_5 : cX4_readArguments.data.toList.drop 148 = dktX4_readArguments_5 := dk_seg dksX4_readArguments_4 24 rfl rfl
theorem dksX4_readArguments_6 : cX4_readArguments.data.toList.drop 171 = dktX4_readArguments_6 := dk_seg dksX4_readArguments_5 23 rfl rfl
theorem dX4_readArguments_0 : decode cX4_readArguments 0 = .ok (.aload_n 0, 1) := dk_42 (dk_at dksX4_readArguments_0 0 rfl rfl)
theorem dX4_readArguments_1 : decode cX4_readArguments 1 = .ok (.getfield 45, 3) := dk_180 0 45 (dk_at dksX4_readArguments_0 1 rfl rfl)
theorem dX4_readArguments_4 : decode cX4_readArguments 4 = .ok (.iload_n 2, 1) := dk_28 (dk_at dksX4_readArguments_0 4 rfl rfl)
theorem dX4_readArguments_5 : decode cX4_readArguments 5 = .ok (.iload_n 1, 1) := dk_27 (dk_at dksX4_readArguments_0 5 rfl rfl)
theorem dX4_readArguments_6 : decode cX4_readArguments 6 = .ok (.ifCond .ne 7, 3) := dk_154 0 7 (dk_at dksX4_readArguments_0 6 rfl rfl)
theorem dX4_readArguments_9 : decode cX4_readArguments 9 = .ok (.iconst 0, 1) := dk_3 (dk_at dksX4_readArguments_0 9 rfl rfl)
theorem dX4_readArguments_10 : decode cX4_readArguments 10 = .ok (.goto 32, 3) := dk_167 0 32 (dk_at dksX4_readArguments_0 10 rfl rfl)
theorem dX4_readArguments_13 : decode cX4_readArguments 13 = .ok (.iload_n 1, 1) := dk_27 (dk_at dksX4_readArguments_0 13 rfl rfl)
theorem dX4_readArguments_14 : decode cX4_readArguments 14 = .ok (.bipush 7, 2) := dk_16 7 (dk_at dksX4_readArguments_0 14 rfl rfl)
theorem dX4_readArguments_16 : decode cX4_readArguments 16 = .ok (.if_icmp .eq 15, 3) := dk_159 0 15 (dk_at dksX4_readArguments_0 16 rfl rfl)
theorem dX4_readArguments_19 : decode cX4_readArguments 19 = .ok (.iload_n 1, 1) := dk_27 (dk_at dksX4_readArguments_0 19 rfl rfl)
theorem dX4_readArguments_20 : decode cX4_readArguments 20 = .ok (.bipush 8, 2) := dk_16 8 (dk_at dksX4_readArguments_0 20 rfl rfl)
theorem dX4_readArguments_22 : decode cX4_readArguments 22 = .ok (.if_icmp .eq 9, 3) := dk_159 0 9 (dk_at dksX4_readArguments_1 0 rfl rfl)
theorem dX4_readArguments_25 : decode cX4_readArguments 25 = .ok (.iload_n 1, 1) := dk_27 (dk_at dksX4_readArguments_1 3 rfl rfl)
theorem dX4_readArguments_26 : decode cX4_readArguments 26 = .ok (.bipush 10, 2) := dk_16 10 (dk_at dksX4_readArguments_1 4 rfl rfl)
theorem dX4_readArguments_28 : decode cX4_readArguments 28 = .ok (.if_icmp .ne 10, 3) := dk_160 0 10 (dk_at dksX4_readArguments_1 6 rfl rfl)
theorem dX4_readArguments_31 : decode cX4_readArguments 31 = .ok (.aload_n 0, 1) := dk_42 (dk_at dksX4_readArguments_1 9 rfl rfl)
theorem dX4_readArguments_32 : decode cX4_readArguments 32 = .ok (.invokevirtual 256, 3) := dk_182 1 0 (dk_at dksX4_readArguments_1 10 rfl rfl)
theorem dX4_readArguments_35 : decode cX4_readArguments 35 = .ok (.goto 7, 3) := dk_167 0 7 (dk_at dksX4_readArguments_1 13 rfl rfl)
theorem dX4_readArguments_38 : decode cX4_readArguments 38 = .ok (.aload_n 0, 1) := dk_42 (dk_at dksX4_readArguments_1 16 rfl rfl)
theorem dX4_readArguments_39 : decode cX4_readArguments 39 = .ok (.invokevirtual 250, 3) := dk_182 0 250 (dk_at dksX4_readArguments_1 17 rfl rfl)
theorem dX4_readArguments_42 : decode cX4_readArguments 42 = .ok (.iastore, 1) := dk_79 (dk_at dksX4_readArguments_1 20 rfl rfl)
theorem dX4_readArguments_43 : decode cX4_readArguments 43 = .ok (.iload_n 1, 1) := dk_27 (dk_at dksX4_readArguments_1 21 rfl rfl)
theorem dX4_readArguments_44 : decode cX4_readArguments 44 = .ok (.tableswitch 150 1 10 #[56, 150, 87, 150, 104, 87, 150, 87, 119, 104], 56) := by decide +kernel
theorem dX4_readArguments_100 : decode cX4_readArguments 100 = .ok (.aload_n 0, 1) := dk_42 (dk_at dksX4_readArguments_3 0 rfl rfl)
theorem dX4_readArguments_101 : decode cX4_readArguments 101 = .ok (.getfield 45, 3) := dk_180 0 45 (dk_at dksX4_readArguments_3 1 rfl rfl)
theorem dX4_readArguments_104 : decode cX4_readArguments 104 = .ok (.iload_n 2, 1) := dk_28 (dk_at dksX4_readArguments_3 4 rfl rfl)
theorem dX4_readArguments_105 : decode cX4_readArguments 105 = .ok (.iconst 1, 1) := dk_4 (dk_at dksX4_readArguments_3 5 rfl rfl)
theorem dX4_readArguments_106 : decode cX4_readArguments 106 = .ok (.iadd, 1) := dk_96 (dk_at dksX4_readArguments_3 6 rfl rfl)
theorem dX4_readArguments_107 : decode cX4_readArguments 107 = .ok (.aload_n 0, 1) := dk_42 (dk_at dksX4_readArguments_3 7 rfl rfl)
theorem dX4_readArguments_108 : decode cX4_readArguments 108 = .ok (.bipush 32, 2) := dk_16 32 (dk_at dksX4_readArguments_3 8 rfl rfl)
theorem dX4_readArguments_110 : decode cX4_readArguments 110 = .ok (.invokevirtual 259, 3) := dk_182 1 3 (dk_at dksX4_readArguments_3 10 rfl rfl)
theorem dX4_readArguments_113 : decode cX4_readArguments 113 = .ok (.iastore, 1) := dk_79 (dk_at dksX4_readArguments_3 13 rfl rfl)
theorem dX4_readArguments_114 : decode cX4_readArguments 114 = .ok (.aload_n 0, 1) := dk_42 (dk_at dksX4_readArguments_3 14 rfl rfl)
theorem dX4_readArguments_115 : decode cX4_readArguments 115 = .ok (.getfield 45, 3) := dk_180 0 45 (dk_at dksX4_readArguments_3 15 rfl rfl)
theorem dX4_readArguments_118 : decode cX4_readArguments 118 = .ok (.iload_n 2, 1) := dk_28 (dk_at dksX4_readArguments_3 18 rfl rfl)
theorem dX4_readArguments_119 : decode cX4_readArguments 119 = .ok (.iconst 2, 1) := dk_5 (dk_at dksX4_readArguments_3 19 rfl rfl)
theorem dX4_readArguments_120 : decode cX4_readArguments 120 = .ok (.iadd, 1) := dk_96 (dk_at dksX4_readArguments_3 20 rfl rfl)
theorem dX4_readArguments_121 : decode cX4_readArguments 121 = .ok (.aload_n 0, 1) := dk_42 (dk_at dksX4_readArguments_3 21 rfl rfl)
theorem dX4_readArguments_122 : decode cX4_readArguments 122 = .ok (.bipush 47, 2) := dk_16 47 (dk_at dksX4_readArguments_3 22 rfl rfl)
theorem dX4_readArguments_124 : decode cX4_readArguments 124 = .ok (.invokevirtual 259, 3) := dk_182 1 3 (dk_at dksX4_readArguments_4 0 rfl rfl)
theorem dX4_readArguments_127 : decode cX4_readArguments 127 = .ok (.iastore, 1) := dk_79 (dk_at dksX4_readArguments_4 3 rfl rfl)
theorem dX4_readArguments_128 : decode cX4_readArguments 128 = .ok (.goto 66, 3) := dk_167 0 66 (dk_at dksX4_readArguments_4 4 rfl rfl)
theorem dX4_readArguments_131 : decode cX4_readArguments 131 = .ok (.aload_n 0, 1) := dk_42 (dk_at dksX4_readArguments_4 7 rfl rfl)
theorem dX4_readArguments_132 : decode cX4_readArguments 132 = .ok (.getfield 45, 3) := dk_180 0 45 (dk_at dksX4_readArguments_4 8 rfl rfl)
theorem dX4_readArguments_135 : decode cX4_readArguments 135 = .ok (.iload_n 2, 1) := dk_28 (dk_at dksX4_readArguments_4 11 rfl rfl)
theorem dX4_readArguments_136 : decode cX4_readArguments 136 = .ok (.iconst 1, 1) := dk_4 (dk_at dksX4_readArguments_4 12 rfl rfl)
theorem dX4_readArguments_137 : decode cX4_readArguments 137 = .ok (.iadd, 1) := dk_96 (dk_at dksX4_readArguments_4 13 rfl rfl)
theorem dX4_readArguments_138 : decode cX4_readArguments 138 = .ok (.aload_n 0, 1) := dk_42 (dk_at dksX4_readArguments_4 14 rfl rfl)
theorem dX4_readArguments_139 : decode cX4_readArguments 139 = .ok (.bipush 32, 2) := dk_16 32 (dk_at dksX4_readArguments_4 15 rfl rfl)
theorem dX4_readArguments_141 : decode cX4_readArguments 141 = .ok (.invokevirtual 259, 3) := dk_182 1 3 (dk_at dksX4_readArguments_4 17 rfl rfl)
theorem dX4_readArguments_144 : decode cX4_readArguments 144 = .ok (.iastore, 1) := dk_79 (dk_at dksX4_readArguments_4 20 rfl rfl)
theorem dX4_readArguments_145 : decode cX4_readArguments 145 = .ok (.goto 49, 3) := dk_167 0 49 (dk_at dksX4_readArguments_4 21 rfl rfl)
theorem dX4_readArguments_148 : decode cX4_readArguments 148 = .ok (.aload_n 0, 1) := dk_42 (dk_at dksX4_readArguments_5 0 rfl rfl)
theorem dX4_readArguments_149 : decode cX4_readArguments 149 = .ok (.getfield 45, 3) := dk_180 0 45 (dk_at dksX4_readArguments_5 1 rfl rfl)
theorem dX4_readArguments_152 : decode cX4_readArguments 152 = .ok (.iload_n 2, 1) := dk_28 (dk_at dksX4_readArguments_5 4 rfl rfl)
theorem dX4_readArguments_153 : decode cX4_readArguments 153 = .ok (.iconst 1, 1) := dk_4 (dk_at dksX4_readArguments_5 5 rfl rfl)
theorem dX4_readArguments_154 : decode cX4_readArguments 154 = .ok (.iadd, 1) := dk_96 (dk_at dksX4_readArguments_5 6 rfl rfl)
theorem dX4_readArguments_155 : decode cX4_readArguments 155 = .ok (.aload_n 0, 1) := dk_42 (dk_at dksX4_readArguments_5 7 rfl rfl)
theorem dX4_readArguments_156 : decode cX4_readArguments 156 = .ok (.invokevirtual 262, 3) := dk_182 1 6 (dk_at dksX4_readArguments_5 8 rfl rfl)
theorem dX4_readArguments_159 : decode cX4_readArguments 159 = .ok (.iastore, 1) := dk_79 (dk_at dksX4_readArguments_5 11 rfl rfl)
theorem dX4_readArguments_160 : decode cX4_readArguments 160 = .ok (.goto 34, 3) := dk_167 0 34 (dk_at dksX4_readArguments_5 12 rfl rfl)
theorem dX4_readArguments_163 : decode cX4_readArguments 163 = .ok (.aload_n 0, 1) := dk_42 (dk_at dksX4_readArguments_5 15 rfl rfl)
theorem dX4_readArguments_164 : decode cX4_readArguments 164 = .ok (.getfield 45, 3) := dk_180 0 45 (dk_at dksX4_readArguments_5 16 rfl rfl)
theorem dX4_readArguments_167 : decode cX4_readArguments 167 = .ok (.iload_n 2, 1) := dk_28 (dk_at dksX4_readArguments_5 19 rfl rfl)
theorem dX4_readArguments_168 : decode cX4_readArguments 168 = .ok (.iconst 1, 1) := dk_4 (dk_at dksX4_readArguments_5 20 rfl rfl)
theorem dX4_readArguments_169 : decode cX4_readArguments 169 = .ok (.iadd, 1) := dk_96 (dk_at dksX4_readArguments_5 21 rfl rfl)
theorem dX4_readArguments_170 : decode cX4_readArguments 170 = .ok (.aload_n 0, 1) := dk_42 (dk_at dksX4_readArguments_5 22 rfl rfl)
theorem dX4_readArguments_171 : decode cX4_readArguments 171 = .ok (.bipush 32, 2) := dk_16 32 (dk_at dksX4_readArguments_6 0 rfl rfl)
theorem dX4_readArguments_173 : decode cX4_readArguments 173 = .ok (.invokevirtual 259, 3) := dk_182 1 3 (dk_at dksX4_readArguments_6 2 rfl rfl)
theorem dX4_readArguments_176 : decode cX4_readArguments 176 = .ok (.iastore, 1) := dk_79 (dk_at dksX4_readArguments_6 5 rfl rfl)
theorem dX4_readArguments_177 : decode cX4_readArguments 177 = .ok (.aload_n 0, 1) := dk_42 (dk_at dksX4_readArguments_6 6 rfl rfl)
theorem dX4_readArguments_178 : decode cX4_readArguments 178 = .ok (.getfield 45, 3) := dk_180 0 45 (dk_at dksX4_readArguments_6 7 rfl rfl)
theorem dX4_readArguments_181 : decode cX4_readArguments 181 = .ok (.iload_n 2, 1) := dk_28 (dk_at dksX4_readArguments_6 10 rfl rfl)
theorem dX4_readArguments_182 : decode cX4_readArguments 182 = .ok (.iconst 2, 1) := dk_5 (dk_at dksX4_readArguments_6 11 rfl rfl)
theorem dX4_readArguments_183 : decode cX4_readArguments 183 = .ok (.iadd, 1) := dk_96 (dk_at dksX4_readArguments_6 12 rfl rfl)
theorem dX4_readArguments_184 : decode cX4_readArguments 184 = .ok (.aload_n 0, 1) := dk_42 (dk_at dksX4_readArguments_6 13 rfl rfl)
theorem dX4_readArguments_185 : decode cX4_readArguments 185 = .ok (.bipush 32, 2) := dk_16 32 (dk_at dksX4_readArguments_6 14 rfl rfl)
theorem dX4_readArguments_187 : decode cX4_readArguments 187 = .ok (.invokevirtual 259, 3) := dk_182 1 3 (dk_at dksX4_readArguments_6 16 rfl rfl)
theorem dX4_readArguments_190 : decode cX4_readArguments 190 = .ok (.iastore, 1) := dk_79 (dk_at dksX4_readArguments_6 19 rfl rfl)
theorem dX4_readArguments_191 : decode cX4_readArguments 191 = .ok (.goto 3, 3) := dk_167 0 3 (dk_at dksX4_readArguments_6 20 rfl rfl)
theorem dX4_readArguments_194 : decode cX4_readArguments 194 = .ok (.return_, 1) := dk_177 (dk_at dksX4_readArguments_6 23 rfl rfl)
def dkwX4_number_2 : List UInt8 := [132, 2, 1, 167, 255, 214, 27, 172]
abbrev dktX4_number_2 : List UInt8 := dkwX4_number_2 ++ []
def dkwX4_number_1 : List UInt8 := [20, 0, 246, 20, 0, 248, 184, 0, 54, 153, 0, 19, 16, 10, 27, 104, 42, 182, 0, 250, 96, 60]
abbrev dktX4_number_1 : List UInt8 := dkwX4_number_1 ++ dktX4_number_2
def dkwX4_number_0 : List UInt8 := [42, 182, 0, 250, 60, 3, 61, 28, 5, 162, 0, 43, 42, 180, 0, 239, 154, 0, 36, 42, 182, 0, 243, 133]
abbrev dktX4_number_0 : List UInt8 := dkwX4_number_0 ++ dktX4_number_1
theorem dksX4_number_0 : cX4_number.data.toList.drop 0 = dktX4_number_0 := by decide +kernel
theorem dksX4_number_1 : cX4_number.data.toList.drop 24 = dktX4_number_1 := dk_seg dksX4_number_0 24 rfl rfl
theorem dksX4_number_2 : cX4_number.data.toList.drop 46 = dktX4_number_2 := dk_seg dksX4_number_1 22 rfl rfl
theorem dX4_number_0 : decode cX4_number 0 = .ok (.aload_n 0, 1) := dk_42 (dk_at dksX4_number_0 0 rfl rfl)
theorem dX4_number_1 : decode cX4_number 1 = .ok (.invokevirtual 250, 3) := dk_182 0 250 (dk_at dksX4_number_0 1 rfl rfl)
theorem dX4_number_4 : decode cX4_number 4 = .ok (.istore_n 1, 1) := dk_60 (dk_at dksX4_number_0 4 rfl rfl)
theorem dX4_number_5 : decode cX4_number 5 = .ok (.iconst 0, 1) := dk_3 (dk_at dksX4_number_0 5 rfl rfl)
theorem dX4_number_6 : decode cX4_number 6 = .ok (.istore_n 2, 1) := dk_61 (dk_at dksX4_number_0 6 rfl rfl)
theorem dX4_number_7 : decode cX4_number 7 = .ok (.iload_n 2, 1) := dk_28 (dk_at dksX4_number_0 7 rfl rfl)
theorem dX4_number_8 : decode cX4_number 8 = .ok (.iconst 2, 1) := dk_5 (dk_at dksX4_number_0 8 rfl rfl)
theorem dX4_number_9 : decode cX4_number 9 = .ok (.if_icmp .ge 43, 3) := dk_162 0 43 (dk_at dksX4_number_0 9 rfl rfl)
theorem dX4_number_12 : decode cX4_number 12 = .ok (.aload_n 0, 1) := dk_42 (dk_at dksX4_number_0 12 rfl rfl)
theorem dX4_number_13 : decode cX4_number 13 = .ok (.getfield 239, 3) := dk_180 0 239 (dk_at dksX4_number_0 13 rfl rfl)
theorem dX4_number_16 : decode cX4_number 16 = .ok (.ifCond .ne 36, 3) := dk_154 0 36 (dk_at dksX4_number_0 16 rfl rfl)
theorem dX4_number_19 : decode cX4_number 19 = .ok (.aload_n 0, 1) := dk_42 (dk_at dksX4_number_0 19 rfl rfl)
theorem dX4_number_20 : decode cX4_number 20 = .ok (.invokevirtual 243, 3) := dk_182 0 243 (dk_at dksX4_number_0 20 rfl rfl)
theorem dX4_number_23 : decode cX4_number 23 = .ok (.i2l, 1) := dk_133 (dk_at dksX4_number_0 23 rfl rfl)
theorem dX4_number_24 : decode cX4_number 24 = .ok (.ldc2_w 246, 3) := dk_20 0 246 (dk_at dksX4_number_1 0 rfl rfl)
theorem dX4_number_27 : decode cX4_number 27 = .ok (.ldc2_w 248, 3) := dk_20 0 248 (dk_at dksX4_number_1 3 rfl rfl)
theorem dX4_number_30 : decode cX4_number 30 = .ok (.invokestatic 54, 3) := dk_184 0 54 (dk_at dksX4_number_1 6 rfl rfl)
theorem dX4_number_33 : decode cX4_number 33 = .ok (.ifCond .eq 19, 3) := dk_153 0 19 (dk_at dksX4_number_1 9 rfl rfl)
theorem dX4_number_36 : decode cX4_number 36 = .ok (.bipush 10, 2) := dk_16 10 (dk_at dksX4_number_1 12 rfl rfl)
theorem dX4_number_38 : decode cX4_number 38 = .ok (.iload_n 1, 1) := dk_27 (dk_at dksX4_number_1 14 rfl rfl)
theorem dX4_number_39 : decode cX4_number 39 = .ok (.imul, 1) := dk_104 (dk_at dksX4_number_1 15 rfl rfl)
theorem dX4_number_40 : decode cX4_number 40 = .ok (.aload_n 0, 1) := dk_42 (dk_at dksX4_number_1 16 rfl rfl)
theorem dX4_number_41 : decode cX4_number 41 = .ok (.invokevirtual 250, 3) := dk_182 0 250 (dk_at dksX4_number_1 17 rfl rfl)
theorem dX4_number_44 : decode cX4_number 44 = .ok (.iadd, 1) := dk_96 (dk_at dksX4_number_1 20 rfl rfl)
theorem dX4_number_45 : decode cX4_number 45 = .ok (.istore_n 1, 1) := dk_60 (dk_at dksX4_number_1 21 rfl rfl)
theorem dX4_number_46 : decode cX4_number 46 = .ok (.iinc 2 1, 3) := dk_132 2 1 (dk_at dksX4_number_2 0 rfl rfl)
theorem dX4_number_49 : decode cX4_number 49 = .ok (.goto (-42), 3) := dk_167 255 214 (dk_at dksX4_number_2 3 rfl rfl)
theorem dX4_number_52 : decode cX4_number 52 = .ok (.iload_n 1, 1) := dk_27 (dk_at dksX4_number_2 6 rfl rfl)
theorem dX4_number_53 : decode cX4_number 53 = .ok (.ireturn, 1) := dk_172 (dk_at dksX4_number_2 7 rfl rfl)
def dkwX4_digit_3 : List UInt8 := [96, 181, 0, 233, 27, 172]
abbrev dktX4_digit_3 : List UInt8 := dkwX4_digit_3 ++ []
def dkwX4_digit_2 : List UInt8 := [182, 0, 243, 16, 48, 100, 60, 42, 89, 180, 0, 233, 42, 180, 0, 239, 153, 0, 7, 3, 167, 0, 4, 4]
abbrev dktX4_digit_2 : List UInt8 := dkwX4_digit_2 ++ dktX4_digit_3
def dkwX4_digit_1 : List UInt8 := [154, 0, 7, 4, 167, 0, 4, 3, 181, 0, 239, 42, 180, 0, 239, 153, 0, 7, 3, 167, 0, 10, 42]
abbrev dktX4_digit_1 : List UInt8 := dkwX4_digit_1 ++ dktX4_digit_2
def dkwX4_digit_0 : List UInt8 := [42, 42, 180, 0, 239, 154, 0, 20, 42, 182, 0, 243, 133, 20, 0, 246, 20, 0, 248, 184, 0, 54]
abbrev dktX4_digit_0 : List UInt8 := dkwX4_digit_0 ++ dktX4_digit_1
theorem dksX4_digit_0 : cX4_digit.data.toList.drop 0 = dktX4_digit_0 := by decide +kernel
theorem dksX4_digit_1 : cX4_digit.data.toList.drop 22 = dktX4_digit_1 := dk_seg dksX4_digit_0 22 rfl rfl
theorem dksX4_digit_2 : cX4_digit.data.toList.drop 45 = dktX4_digit_2 := dk_seg dksX4_digit_1 23 rfl rfl
theorem dksX4_digit_3 : cX4_digit.data.toList.drop 69 = dktX4_digit_3 := dk_seg dksX4_digit_2 24 rfl rfl
theorem dX4_digit_0 : decode cX4_digit 0 = .ok (.aload_n 0, 1) := dk_42 (dk_at dksX4_digit_0 0 rfl rfl)
theorem dX4_digit_1 : decode cX4_digit 1 = .ok (.aload_n 0, 1) := dk_42 (dk_at dksX4_digit_0 1 rfl rfl)
theorem dX4_digit_2 : decode cX4_digit 2 = .ok (.getfield 239, 3) := dk_180 0 239 (dk_at dksX4_digit_0 2 rfl rfl)
theorem dX4_digit_5 : decode cX4_digit 5 = .ok (.ifCond .ne 20, 3) := dk_154 0 20 (dk_at dksX4_digit_0 5 rfl rfl)
theorem dX4_digit_8 : decode cX4_digit 8 = .ok (.aload_n 0, 1) := dk_42 (dk_at dksX4_digit_0 8 rfl rfl)
theorem dX4_digit_9 : decode cX4_digit 9 = .ok (.invokevirtual 243, 3) := dk_182 0 243 (dk_at dksX4_digit_0 9 rfl rfl)
theorem dX4_digit_12 : decode cX4_digit 12 = .ok (.i2l, 1) := dk_133 (dk_at dksX4_digit_0 12 rfl rfl)
theorem dX4_digit_13 : decode cX4_digit 13 = .ok (.ldc2_w 246, 3) := dk_20 0 246 (dk_at dksX4_digit_0 13 rfl rfl)
theorem dX4_digit_16 : decode cX4_digit 16 = .ok (.ldc2_w 248, 3) := dk_20 0 248 (dk_at dksX4_digit_0 16 rfl rfl)
theorem dX4_digit_19 : decode cX4_digit 19 = .ok (.invokestatic 54, 3) := dk_184 0 54 (dk_at dksX4_digit_0 19 rfl rfl)
theorem dX4_digit_22 : decode cX4_digit 22 = .ok (.ifCond .ne 7, 3) := dk_154 0 7 (dk_at dksX4_digit_1 0 rfl rfl)
theorem dX4_digit_25 : decode cX4_digit 25 = .ok (.iconst 1, 1) := dk_4 (dk_at dksX4_digit_1 3 rfl rfl)
theorem dX4_digit_26 : decode cX4_digit 26 = .ok (.goto 4, 3) := dk_167 0 4 (dk_at dksX4_digit_1 4 rfl rfl)
theorem dX4_digit_29 : decode cX4_digit 29 = .ok (.iconst 0, 1) := dk_3 (dk_at dksX4_digit_1 7 rfl rfl)
theorem dX4_digit_30 : decode cX4_digit 30 = .ok (.putfield 239, 3) := dk_181 0 239 (dk_at dksX4_digit_1 8 rfl rfl)
theorem dX4_digit_33 : decode cX4_digit 33 = .ok (.aload_n 0, 1) := dk_42 (dk_at dksX4_digit_1 11 rfl rfl)
theorem dX4_digit_34 : decode cX4_digit 34 = .ok (.getfield 239, 3) := dk_180 0 239 (dk_at dksX4_digit_1 12 rfl rfl)
theorem dX4_digit_37 : decode cX4_digit 37 = .ok (.ifCond .eq 7, 3) := dk_153 0 7 (dk_at dksX4_digit_1 15 rfl rfl)
theorem dX4_digit_40 : decode cX4_digit 40 = .ok (.iconst 0, 1) := dk_3 (dk_at dksX4_digit_1 18 rfl rfl)
theorem dX4_digit_41 : decode cX4_digit 41 = .ok (.goto 10, 3) := dk_167 0 10 (dk_at dksX4_digit_1 19 rfl rfl)
theorem dX4_digit_44 : decode cX4_digit 44 = .ok (.aload_n 0, 1) := dk_42 (dk_at dksX4_digit_1 22 rfl rfl)
theorem dX4_digit_45 : decode cX4_digit 45 = .ok (.invokevirtual 243, 3) := dk_182 0 243 (dk_at dksX4_digit_2 0 rfl rfl)
theorem dX4_digit_48 : decode cX4_digit 48 = .ok (.bipush 48, 2) := dk_16 48 (dk_at dksX4_digit_2 3 rfl rfl)
theorem dX4_digit_50 : decode cX4_digit 50 = .ok (.isub, 1) := dk_100 (dk_at dksX4_digit_2 5 rfl rfl)
theorem dX4_digit_51 : decode cX4_digit 51 = .ok (.istore_n 1, 1) := dk_60 (dk_at dksX4_digit_2 6 rfl rfl)
theorem dX4_digit_52 : decode cX4_digit 52 = .ok (.aload_n 0, 1) := dk_42 (dk_at dksX4_digit_2 7 rfl rfl)
theorem dX4_digit_53 : decode cX4_digit 53 = .ok (.dup, 1) := dk_89 (dk_at dksX4_digit_2 8 rfl rfl)
theorem dX4_digit_54 : decode cX4_digit 54 = .ok (.getfield 233, 3) := dk_180 0 233 (dk_at dksX4_digit_2 9 rfl rfl)
theorem dX4_digit_57 : decode cX4_digit 57 = .ok (.aload_n 0, 1) := dk_42 (dk_at dksX4_digit_2 12 rfl rfl)
theorem dX4_digit_58 : decode cX4_digit 58 = .ok (.getfield 239, 3) := dk_180 0 239 (dk_at dksX4_digit_2 13 rfl rfl)
theorem dX4_digit_61 : decode cX4_digit 61 = .ok (.ifCond .eq 7, 3) := dk_153 0 7 (dk_at dksX4_digit_2 16 rfl rfl)
theorem dX4_digit_64 : decode cX4_digit 64 = .ok (.iconst 0, 1) := dk_3 (dk_at dksX4_digit_2 19 rfl rfl)
theorem dX4_digit_65 : decode cX4_digit 65 = .ok (.goto 4, 3) := dk_167 0 4 (dk_at dksX4_digit_2 20 rfl rfl)
theorem dX4_digit_68 : decode cX4_digit 68 = .ok (.iconst 1, 1) := dk_4 (dk_at dksX4_digit_2 23 rfl rfl)
theorem dX4_digit_69 : decode cX4_digit 69 = .ok (.iadd, 1) := dk_96 (dk_at dksX4_digit_3 0 rfl rfl)
theorem dX4_digit_70 : decode cX4_digit 70 = .ok (.putfield 233, 3) := dk_181 0 233 (dk_at dksX4_digit_3 1 rfl rfl)
theorem dX4_digit_73 : decode cX4_digit 73 = .ok (.iload_n 1, 1) := dk_27 (dk_at dksX4_digit_3 4 rfl rfl)
theorem dX4_digit_74 : decode cX4_digit 74 = .ok (.ireturn, 1) := dk_172 (dk_at dksX4_digit_3 5 rfl rfl)
def dkwX4_here_1 : List UInt8 := [172]
abbrev dktX4_here_1 : List UInt8 := dkwX4_here_1 ++ []
def dkwX4_here_0 : List UInt8 := [42, 180, 0, 233, 42, 180, 0, 236, 162, 0, 15, 42, 180, 0, 29, 42, 180, 0, 233, 46, 167, 0, 4, 2]
abbrev dktX4_here_0 : List UInt8 := dkwX4_here_0 ++ dktX4_here_1
theorem dksX4_here_0 : cX4_here.data.toList.drop 0 = dktX4_here_0 := by decide +kernel
theorem dksX4_here_1 : cX4_here.data.toList.drop 24 = dktX4_here_1 := dk_seg dksX4_here_0 24 rfl rfl
theorem dX4_here_0 : decode cX4_here 0 = .ok (.aload_n 0, 1) := dk_42 (dk_at dksX4_here_0 0 rfl rfl)
theorem dX4_here_1 : decode cX4_here 1 = .ok (.getfield 233, 3) := dk_180 0 233 (dk_at dksX4_here_0 1 rfl rfl)
theorem dX4_here_4 : decode cX4_here 4 = .ok (.aload_n 0, 1) := dk_42 (dk_at dksX4_here_0 4 rfl rfl)
theorem dX4_here_5 : decode cX4_here 5 = .ok (.getfield 236, 3) := dk_180 0 236 (dk_at dksX4_here_0 5 rfl rfl)
theorem dX4_here_8 : decode cX4_here 8 = .ok (.if_icmp .ge 15, 3) := dk_162 0 15 (dk_at dksX4_here_0 8 rfl rfl)
theorem dX4_here_11 : decode cX4_here 11 = .ok (.aload_n 0, 1) := dk_42 (dk_at dksX4_here_0 11 rfl rfl)
theorem dX4_here_12 : decode cX4_here 12 = .ok (.getfield 29, 3) := dk_180 0 29 (dk_at dksX4_here_0 12 rfl rfl)
theorem dX4_here_15 : decode cX4_here 15 = .ok (.aload_n 0, 1) := dk_42 (dk_at dksX4_here_0 15 rfl rfl)
theorem dX4_here_16 : decode cX4_here 16 = .ok (.getfield 233, 3) := dk_180 0 233 (dk_at dksX4_here_0 16 rfl rfl)
theorem dX4_here_19 : decode cX4_here 19 = .ok (.iaload, 1) := dk_46 (dk_at dksX4_here_0 19 rfl rfl)
theorem dX4_here_20 : decode cX4_here 20 = .ok (.goto 4, 3) := dk_167 0 4 (dk_at dksX4_here_0 20 rfl rfl)
theorem dX4_here_23 : decode cX4_here 23 = .ok (.iconst (-1), 1) := dk_2 (dk_at dksX4_here_0 23 rfl rfl)
theorem dX4_here_24 : decode cX4_here 24 = .ok (.ireturn, 1) := dk_172 (dk_at dksX4_here_1 0 rfl rfl)
def dkwX4_numberBehind_0 : List UInt8 := [42, 27, 182, 0, 253, 42, 182, 1, 0, 172]
abbrev dktX4_numberBehind_0 : List UInt8 := dkwX4_numberBehind_0 ++ []
theorem dksX4_numberBehind_0 : cX4_numberBehind.data.toList.drop 0 = dktX4_numberBehind_0 := by decide +kernel
theorem dX4_numberBehind_0 : decode cX4_numberBehind 0 = .ok (.aload_n 0, 1) := dk_42 (dk_at dksX4_numberBehind_0 0 rfl rfl)
theorem dX4_numberBehind_1 : decode cX4_numberBehind 1 = .ok (.iload_n 1, 1) := dk_27 (dk_at dksX4_numberBehind_0 1 rfl rfl)
theorem dX4_numberBehind_2 : decode cX4_numberBehind 2 = .ok (.invokevirtual 253, 3) := dk_182 0 253 (dk_at dksX4_numberBehind_0 2 rfl rfl)
theorem dX4_numberBehind_5 : decode cX4_numberBehind 5 = .ok (.aload_n 0, 1) := dk_42 (dk_at dksX4_numberBehind_0 5 rfl rfl)
theorem dX4_numberBehind_6 : decode cX4_numberBehind 6 = .ok (.invokevirtual 256, 3) := dk_182 1 0 (dk_at dksX4_numberBehind_0 6 rfl rfl)
theorem dX4_numberBehind_9 : decode cX4_numberBehind 9 = .ok (.ireturn, 1) := dk_172 (dk_at dksX4_numberBehind_0 9 rfl rfl)
def dkwX4_expects_1 : List UInt8 := [42, 89, 180, 0, 233, 42, 180, 0, 239, 153, 0, 7, 3, 167, 0, 4, 4, 96, 181, 0, 233, 177]
abbrev dktX4_expects_1 : List UInt8 := dkwX4_expects_1 ++ []
def dkwX4_expects_0 : List UInt8 := [42, 42, 180, 0, 239, 154, 0, 11, 42, 182, 0, 243, 27, 159, 0, 7, 4, 167, 0, 4, 3, 181, 0, 239]
abbrev dktX4_expects_0 : List UInt8 := dkwX4_expects_0 ++ dktX4_expects_1
theorem dksX4_expects_0 : cX4_expects.data.toList.drop 0 = dktX4_expects_0 := by decide +kernel
theorem dksX4_expects_1 : cX4_expects.data.toList.drop 24 = dktX4_expects_1 := dk_seg dksX4_expects_0 24 rfl rfl
theorem dX4_expects_0 : decode cX4_expects 0 = .ok (.aload_n 0, 1) := dk_42 (dk_at dksX4_expects_0 0 rfl rfl)
theorem dX4_expects_1 : decode cX4_expects 1 = .ok (.aload_n 0, 1) := dk_42 (dk_at dksX4_expects_0 1 rfl rfl)
theorem dX4_expects_2 : decode cX4_expects 2 = .ok (.getfield 239, 3) := dk_180 0 239 (dk_at dksX4_expects_0 2 rfl rfl)
theorem dX4_expects_5 : decode cX4_expects 5 = .ok (.ifCond .ne 11, 3) := dk_154 0 11 (dk_at dksX4_expects_0 5 rfl rfl)
theorem dX4_expects_8 : decode cX4_expects 8 = .ok (.aload_n 0, 1) := dk_42 (dk_at dksX4_expects_0 8 rfl rfl)
theorem dX4_expects_9 : decode cX4_expects 9 = .ok (.invokevirtual 243, 3) := dk_182 0 243 (dk_at dksX4_expects_0 9 rfl rfl)
theorem dX4_expects_12 : decode cX4_expects 12 = .ok (.iload_n 1, 1) := dk_27 (dk_at dksX4_expects_0 12 rfl rfl)
theorem dX4_expects_13 : decode cX4_expects 13 = .ok (.if_icmp .eq 7, 3) := dk_159 0 7 (dk_at dksX4_expects_0 13 rfl rfl)
theorem dX4_expects_16 : decode cX4_expects 16 = .ok (.iconst 1, 1) := dk_4 (dk_at dksX4_expects_0 16 rfl rfl)
theorem dX4_expects_17 : decode cX4_expects 17 = .ok (.goto 4, 3) := dk_167 0 4 (dk_at dksX4_expects_0 17 rfl rfl)
theorem dX4_expects_20 : decode cX4_expects 20 = .ok (.iconst 0, 1) := dk_3 (dk_at dksX4_expects_0 20 rfl rfl)
theorem dX4_expects_21 : decode cX4_expects 21 = .ok (.putfield 239, 3) := dk_181 0 239 (dk_at dksX4_expects_0 21 rfl rfl)
theorem dX4_expects_24 : decode cX4_expects 24 = .ok (.aload_n 0, 1) := dk_42 (dk_at dksX4_expects_1 0 rfl rfl)
theorem dX4_expects_25 : decode cX4_expects 25 = .ok (.dup, 1) := dk_89 (dk_at dksX4_expects_1 1 rfl rfl)
theorem dX4_expects_26 : decode cX4_expects 26 = .ok (.getfield 233, 3) := dk_180 0 233 (dk_at dksX4_expects_1 2 rfl rfl)
theorem dX4_expects_29 : decode cX4_expects 29 = .ok (.aload_n 0, 1) := dk_42 (dk_at dksX4_expects_1 5 rfl rfl)
theorem dX4_expects_30 : decode cX4_expects 30 = .ok (.getfield 239, 3) := dk_180 0 239 (dk_at dksX4_expects_1 6 rfl rfl)
theorem dX4_expects_33 : decode cX4_expects 33 = .ok (.ifCond .eq 7, 3) := dk_153 0 7 (dk_at dksX4_expects_1 9 rfl rfl)
theorem dX4_expects_36 : decode cX4_expects 36 = .ok (.iconst 0, 1) := dk_3 (dk_at dksX4_expects_1 12 rfl rfl)
theorem dX4_expects_37 : decode cX4_expects 37 = .ok (.goto 4, 3) := dk_167 0 4 (dk_at dksX4_expects_1 13 rfl rfl)
theorem dX4_expects_40 : decode cX4_expects 40 = .ok (.iconst 1, 1) := dk_4 (dk_at dksX4_expects_1 16 rfl rfl)
theorem dX4_expects_41 : decode cX4_expects 41 = .ok (.iadd, 1) := dk_96 (dk_at dksX4_expects_1 17 rfl rfl)
theorem dX4_expects_42 : decode cX4_expects 42 = .ok (.putfield 233, 3) := dk_181 0 233 (dk_at dksX4_expects_1 18 rfl rfl)
theorem dX4_expects_45 : decode cX4_expects 45 = .ok (.return_, 1) := dk_177 (dk_at dksX4_expects_1 21 rfl rfl)
def dkwX4_digitBehind_0 : List UInt8 := [42, 16, 32, 182, 0, 253, 42, 182, 0, 250, 172]
abbrev dktX4_digitBehind_0 : List UInt8 := dkwX4_digitBehind_0 ++ []
theorem dksX4_digitBehind_0 : cX4_digitBehind.data.toList.drop 0 = dktX4_digitBehind_0 := by decide +kernel
theorem dX4_digitBehind_0 : decode cX4_digitBehind 0 = .ok (.aload_n 0, 1) := dk_42 (dk_at dksX4_digitBehind_0 0 rfl rfl)
theorem dX4_digitBehind_1 : decode cX4_digitBehind 1 = .ok (.bipush 32, 2) := dk_16 32 (dk_at dksX4_digitBehind_0 1 rfl rfl)
theorem dX4_digitBehind_3 : decode cX4_digitBehind 3 = .ok (.invokevirtual 253, 3) := dk_182 0 253 (dk_at dksX4_digitBehind_0 3 rfl rfl)
theorem dX4_digitBehind_6 : decode cX4_digitBehind 6 = .ok (.aload_n 0, 1) := dk_42 (dk_at dksX4_digitBehind_0 6 rfl rfl)
theorem dX4_digitBehind_7 : decode cX4_digitBehind 7 = .ok (.invokevirtual 250, 3) := dk_182 0 250 (dk_at dksX4_digitBehind_0 7 rfl rfl)
theorem dX4_digitBehind_10 : decode cX4_digitBehind 10 = .ok (.ireturn, 1) := dk_172 (dk_at dksX4_digitBehind_0 10 rfl rfl)
def dkwX4_does_7 : List UInt8 := [182, 0, 163, 87, 167, 0, 10, 42, 28, 29, 182, 0, 172, 87, 177]
abbrev dktX4_does_7 : List UInt8 := dkwX4_does_7 ++ []
def dkwX4_does_6 : List UInt8 := [28, 182, 0, 154, 87, 167, 0, 32, 42, 28, 29, 182, 0, 146, 87, 167, 0, 22, 42, 28, 29, 21, 4]
abbrev dktX4_does_6 : List UInt8 := dkwX4_does_6 ++ dktX4_does_7
def dkwX4_does_5 : List UInt8 := [167, 0, 61, 42, 28, 29, 182, 0, 136, 87, 167, 0, 51, 42, 28, 29, 182, 0, 139, 87, 167, 0, 41, 42]
abbrev dktX4_does_5 : List UInt8 := dkwX4_does_5 ++ dktX4_does_6
def dkwX4_does_4 : List UInt8 := [182, 0, 106, 87, 167, 0, 80, 42, 28, 29, 182, 0, 114, 87, 167, 0, 70, 42, 28, 182, 0, 129, 87]
abbrev dktX4_does_4 : List UInt8 := dkwX4_does_4 ++ dktX4_does_5
def dkwX4_does_3 : List UInt8 := [42, 182, 0, 94, 87, 167, 0, 101, 42, 28, 29, 21, 4, 182, 0, 103, 87, 167, 0, 89, 42, 28]
abbrev dktX4_does_3 : List UInt8 := dkwX4_does_3 ++ dktX4_does_4
def dkwX4_does_2 : List UInt8 := [170, 0, 0, 0, 0, 153, 0, 0, 0, 0, 0, 0, 0, 9, 0, 0, 0, 54, 0, 0, 0, 62, 0, 0, 0, 74, 0, 0, 0, 83, 0, 0, 0, 93, 0, 0, 0, 102, 0, 0, 0, 112, 0, 0, 0, 122, 0, 0, 0, 131, 0, 0, 0, 141]
abbrev dktX4_does_2 : List UInt8 := dkwX4_does_2 ++ dktX4_does_3
def dkwX4_does_1 : List UInt8 := [96, 46, 54, 4, 42, 180, 0, 45, 27, 46]
abbrev dktX4_does_1 : List UInt8 := dkwX4_does_1 ++ dktX4_does_2
def dkwX4_does_0 : List UInt8 := [42, 180, 0, 45, 27, 4, 96, 46, 61, 42, 180, 0, 45, 27, 5, 96, 46, 62, 42, 180, 0, 45, 27, 6]
abbrev dktX4_does_0 : List UInt8 := dkwX4_does_0 ++ dktX4_does_1
theorem dksX4_does_0 : cX4_does.data.toList.drop 0 = dktX4_does_0 := by decide +kernel
theorem dksX4_does_1 : cX4_does.data.toList.drop 24 = dktX4_does_1 := dk_seg dksX4_does_0 24 rfl rfl
theorem dksX4_does_2 : cX4_does.data.toList.drop 34 = dktX4_does_2 := dk_seg dksX4_does_1 10 rfl rfl
theorem dksX4_does_3 : cX4_does.data.toList.drop 88 = dktX4_does_3 := dk_seg dksX4_does_2 54 rfl rfl
theorem dksX4_does_4 : cX4_does.data.toList.drop 110 = dktX4_does_4 := dk_seg dksX4_does_3 22 rfl rfl
theorem dksX4_does_5 : cX4_does.data.toList.drop 133 = dktX4_does_5 := dk_seg dksX4_does_4 23 rfl rfl
theorem dksX4_does_6 : cX4_does.data.toList.drop 157 = dktX4_does_6 := dk_seg dksX4_does_5 24 rfl rfl
theorem dksX4_does_7 : cX4_does.data.toList.drop 180 = dktX4_does_7 := dk_seg dksX4_does_6 23 rfl rfl
theorem dX4_does_0 : decode cX4_does 0 = .ok (.aload_n 0, 1) := dk_42 (dk_at dksX4_does_0 0 rfl rfl)
theorem dX4_does_1 : decode cX4_does 1 = .ok (.getfield 45, 3) := dk_180 0 45 (dk_at dksX4_does_0 1 rfl rfl)
theorem dX4_does_4 : decode cX4_does 4 = .ok (.iload_n 1, 1) := dk_27 (dk_at dksX4_does_0 4 rfl rfl)
theorem dX4_does_5 : decode cX4_does 5 = .ok (.iconst 1, 1) := dk_4 (dk_at dksX4_does_0 5 rfl rfl)
theorem dX4_does_6 : decode cX4_does 6 = .ok (.iadd, 1) := dk_96 (dk_at dksX4_does_0 6 rfl rfl)
theorem dX4_does_7 : decode cX4_does 7 = .ok (.iaload, 1) := dk_46 (dk_at dksX4_does_0 7 rfl rfl)
theorem dX4_does_8 : decode cX4_does 8 = .ok (.istore_n 2, 1) := dk_61 (dk_at dksX4_does_0 8 rfl rfl)
theorem dX4_does_9 : decode cX4_does 9 = .ok (.aload_n 0, 1) := dk_42 (dk_at dksX4_does_0 9 rfl rfl)
theorem dX4_does_10 : decode cX4_does 10 = .ok (.getfield 45, 3) := dk_180 0 45 (dk_at dksX4_does_0 10 rfl rfl)
theorem dX4_does_13 : decode cX4_does 13 = .ok (.iload_n 1, 1) := dk_27 (dk_at dksX4_does_0 13 rfl rfl)
theorem dX4_does_14 : decode cX4_does 14 = .ok (.iconst 2, 1) := dk_5 (dk_at dksX4_does_0 14 rfl rfl)
theorem dX4_does_15 : decode cX4_does 15 = .ok (.iadd, 1) := dk_96 (dk_at dksX4_does_0 15 rfl rfl)
theorem dX4_does_16 : decode cX4_does 16 = .ok (.iaload, 1) := dk_46 (dk_at dksX4_does_0 16 rfl rfl)
theorem dX4_does_17 : decode cX4_does 17 = .ok (.istore_n 3, 1) := dk_62 (dk_at dksX4_does_0 17 rfl rfl)
theorem dX4_does_18 : decode cX4_does 18 = .ok (.aload_n 0, 1) := dk_42 (dk_at dksX4_does_0 18 rfl rfl)
theorem dX4_does_19 : decode cX4_does 19 = .ok (.getfield 45, 3) := dk_180 0 45 (dk_at dksX4_does_0 19 rfl rfl)
theorem dX4_does_22 : decode cX4_does 22 = .ok (.iload_n 1, 1) := dk_27 (dk_at dksX4_does_0 22 rfl rfl)
theorem dX4_does_23 : decode cX4_does 23 = .ok (.iconst 3, 1) := dk_6 (dk_at dksX4_does_0 23 rfl rfl)
theorem dX4_does_24 : decode cX4_does 24 = .ok (.iadd, 1) := dk_96 (dk_at dksX4_does_1 0 rfl rfl)
theorem dX4_does_25 : decode cX4_does 25 = .ok (.iaload, 1) := dk_46 (dk_at dksX4_does_1 1 rfl rfl)
theorem dX4_does_26 : decode cX4_does 26 = .ok (.istore 4, 2) := dk_54 4 (dk_at dksX4_does_1 2 rfl rfl)
theorem dX4_does_28 : decode cX4_does 28 = .ok (.aload_n 0, 1) := dk_42 (dk_at dksX4_does_1 4 rfl rfl)
theorem dX4_does_29 : decode cX4_does 29 = .ok (.getfield 45, 3) := dk_180 0 45 (dk_at dksX4_does_1 5 rfl rfl)
theorem dX4_does_32 : decode cX4_does 32 = .ok (.iload_n 1, 1) := dk_27 (dk_at dksX4_does_1 8 rfl rfl)
theorem dX4_does_33 : decode cX4_does 33 = .ok (.iaload, 1) := dk_46 (dk_at dksX4_does_1 9 rfl rfl)
theorem dX4_does_34 : decode cX4_does 34 = .ok (.tableswitch 153 0 9 #[54, 62, 74, 83, 93, 102, 112, 122, 131, 141], 54) := by decide +kernel
theorem dX4_does_88 : decode cX4_does 88 = .ok (.aload_n 0, 1) := dk_42 (dk_at dksX4_does_3 0 rfl rfl)
theorem dX4_does_89 : decode cX4_does 89 = .ok (.invokevirtual 94, 3) := dk_182 0 94 (dk_at dksX4_does_3 1 rfl rfl)
theorem dX4_does_92 : decode cX4_does 92 = .ok (.pop, 1) := dk_87 (dk_at dksX4_does_3 4 rfl rfl)
theorem dX4_does_93 : decode cX4_does 93 = .ok (.goto 101, 3) := dk_167 0 101 (dk_at dksX4_does_3 5 rfl rfl)
theorem dX4_does_96 : decode cX4_does 96 = .ok (.aload_n 0, 1) := dk_42 (dk_at dksX4_does_3 8 rfl rfl)
theorem dX4_does_97 : decode cX4_does 97 = .ok (.iload_n 2, 1) := dk_28 (dk_at dksX4_does_3 9 rfl rfl)
theorem dX4_does_98 : decode cX4_does 98 = .ok (.iload_n 3, 1) := dk_29 (dk_at dksX4_does_3 10 rfl rfl)
theorem dX4_does_99 : decode cX4_does 99 = .ok (.iload 4, 2) := dk_21 4 (dk_at dksX4_does_3 11 rfl rfl)
theorem dX4_does_101 : decode cX4_does 101 = .ok (.invokevirtual 103, 3) := dk_182 0 103 (dk_at dksX4_does_3 13 rfl rfl)
theorem dX4_does_104 : decode cX4_does 104 = .ok (.pop, 1) := dk_87 (dk_at dksX4_does_3 16 rfl rfl)
theorem dX4_does_105 : decode cX4_does 105 = .ok (.goto 89, 3) := dk_167 0 89 (dk_at dksX4_does_3 17 rfl rfl)
theorem dX4_does_108 : decode cX4_does 108 = .ok (.aload_n 0, 1) := dk_42 (dk_at dksX4_does_3 20 rfl rfl)
theorem dX4_does_109 : decode cX4_does 109 = .ok (.iload_n 2, 1) := dk_28 (dk_at dksX4_does_3 21 rfl rfl)
theorem dX4_does_110 : decode cX4_does 110 = .ok (.invokevirtual 106, 3) := dk_182 0 106 (dk_at dksX4_does_4 0 rfl rfl)
theorem dX4_does_113 : decode cX4_does 113 = .ok (.pop, 1) := dk_87 (dk_at dksX4_does_4 3 rfl rfl)
theorem dX4_does_114 : decode cX4_does 114 = .ok (.goto 80, 3) := dk_167 0 80 (dk_at dksX4_does_4 4 rfl rfl)
theorem dX4_does_117 : decode cX4_does 117 = .ok (.aload_n 0, 1) := dk_42 (dk_at dksX4_does_4 7 rfl rfl)
theorem dX4_does_118 : decode cX4_does 118 = .ok (.iload_n 2, 1) := dk_28 (dk_at dksX4_does_4 8 rfl rfl)
theorem dX4_does_119 : decode cX4_does 119 = .ok (.iload_n 3, 1) := dk_29 (dk_at dksX4_does_4 9 rfl rfl)
theorem dX4_does_120 : decode cX4_does 120 = .ok (.invokevirtual 114, 3) := dk_182 0 114 (dk_at dksX4_does_4 10 rfl rfl)
theorem dX4_does_123 : decode cX4_does 123 = .ok (.pop, 1) := dk_87 (dk_at dksX4_does_4 13 rfl rfl)
theorem dX4_does_124 : decode cX4_does 124 = .ok (.goto 70, 3) := dk_167 0 70 (dk_at dksX4_does_4 14 rfl rfl)
theorem dX4_does_127 : decode cX4_does 127 = .ok (.aload_n 0, 1) := dk_42 (dk_at dksX4_does_4 17 rfl rfl)
theorem dX4_does_128 : decode cX4_does 128 = .ok (.iload_n 2, 1) := dk_28 (dk_at dksX4_does_4 18 rfl rfl)
theorem dX4_does_129 : decode cX4_does 129 = .ok (.invokevirtual 129, 3) := dk_182 0 129 (dk_at dksX4_does_4 19 rfl rfl)
theorem dX4_does_132 : decode cX4_does 132 = .ok (.pop, 1) := dk_87 (dk_at dksX4_does_4 22 rfl rfl)
theorem dX4_does_133 : decode cX4_does 133 = .ok (.goto 61, 3) := dk_167 0 61 (dk_at dksX4_does_5 0 rfl rfl)
theorem dX4_does_136 : decode cX4_does 136 = .ok (.aload_n 0, 1) := dk_42 (dk_at dksX4_does_5 3 rfl rfl)
theorem dX4_does_137 : decode cX4_does 137 = .ok (.iload_n 2, 1) := dk_28 (dk_at dksX4_does_5 4 rfl rfl)
theorem dX4_does_138 : decode cX4_does 138 = .ok (.iload_n 3, 1) := dk_29 (dk_at dksX4_does_5 5 rfl rfl)
theorem dX4_does_139 : decode cX4_does 139 = .ok (.invokevirtual 136, 3) := dk_182 0 136 (dk_at dksX4_does_5 6 rfl rfl)
theorem dX4_does_142 : decode cX4_does 142 = .ok (.pop, 1) := dk_87 (dk_at dksX4_does_5 9 rfl rfl)
theorem dX4_does_143 : decode cX4_does 143 = .ok (.goto 51, 3) := dk_167 0 51 (dk_at dksX4_does_5 10 rfl rfl)
theorem dX4_does_146 : decode cX4_does 146 = .ok (.aload_n 0, 1) := dk_42 (dk_at dksX4_does_5 13 rfl rfl)
theorem dX4_does_147 : decode cX4_does 147 = .ok (.iload_n 2, 1) := dk_28 (dk_at dksX4_does_5 14 rfl rfl)
theorem dX4_does_148 : decode cX4_does 148 = .ok (.iload_n 3, 1) := dk_29 (dk_at dksX4_does_5 15 rfl rfl)
theorem dX4_does_149 : decode cX4_does 149 = .ok (.invokevirtual 139, 3) := dk_182 0 139 (dk_at dksX4_does_5 16 rfl rfl)
theorem dX4_does_152 : decode cX4_does 152 = .ok (.pop, 1) := dk_87 (dk_at dksX4_does_5 19 rfl rfl)
theorem dX4_does_153 : decode cX4_does 153 = .ok (.goto 41, 3) := dk_167 0 41 (dk_at dksX4_does_5 20 rfl rfl)
theorem dX4_does_156 : decode cX4_does 156 = .ok (.aload_n 0, 1) := dk_42 (dk_at dksX4_does_5 23 rfl rfl)
theorem dX4_does_157 : decode cX4_does 157 = .ok (.iload_n 2, 1) := dk_28 (dk_at dksX4_does_6 0 rfl rfl)
theorem dX4_does_158 : decode cX4_does 158 = .ok (.invokevirtual 154, 3) := dk_182 0 154 (dk_at dksX4_does_6 1 rfl rfl)
theorem dX4_does_161 : decode cX4_does 161 = .ok (.pop, 1) := dk_87 (dk_at dksX4_does_6 4 rfl rfl)
theorem dX4_does_162 : decode cX4_does 162 = .ok (.goto 32, 3) := dk_167 0 32 (dk_at dksX4_does_6 5 rfl rfl)
theorem dX4_does_165 : decode cX4_does 165 = .ok (.aload_n 0, 1) := dk_42 (dk_at dksX4_does_6 8 rfl rfl)
theorem dX4_does_166 : decode cX4_does 166 = .ok (.iload_n 2, 1) := dk_28 (dk_at dksX4_does_6 9 rfl rfl)
theorem dX4_does_167 : decode cX4_does 167 = .ok (.iload_n 3, 1) := dk_29 (dk_at dksX4_does_6 10 rfl rfl)
theorem dX4_does_168 : decode cX4_does 168 = .ok (.invokevirtual 146, 3) := dk_182 0 146 (dk_at dksX4_does_6 11 rfl rfl)
theorem dX4_does_171 : decode cX4_does 171 = .ok (.pop, 1) := dk_87 (dk_at dksX4_does_6 14 rfl rfl)
theorem dX4_does_172 : decode cX4_does 172 = .ok (.goto 22, 3) := dk_167 0 22 (dk_at dksX4_does_6 15 rfl rfl)
theorem dX4_does_175 : decode cX4_does 175 = .ok (.aload_n 0, 1) := dk_42 (dk_at dksX4_does_6 18 rfl rfl)
theorem dX4_does_176 : decode cX4_does 176 = .ok (.iload_n 2, 1) := dk_28 (dk_at dksX4_does_6 19 rfl rfl)
theorem dX4_does_177 : decode cX4_does 177 = .ok (.iload_n 3, 1) := dk_29 (dk_at dksX4_does_6 20 rfl rfl)
theorem dX4_does_178 : decode cX4_does 178 = .ok (.iload 4, 2) := dk_21 4 (dk_at dksX4_does_6 21 rfl rfl)
theorem dX4_does_180 : decode cX4_does 180 = .ok (.invokevirtual 163, 3) := dk_182 0 163 (dk_at dksX4_does_7 0 rfl rfl)
theorem dX4_does_183 : decode cX4_does 183 = .ok (.pop, 1) := dk_87 (dk_at dksX4_does_7 3 rfl rfl)
theorem dX4_does_184 : decode cX4_does 184 = .ok (.goto 10, 3) := dk_167 0 10 (dk_at dksX4_does_7 4 rfl rfl)
theorem dX4_does_187 : decode cX4_does 187 = .ok (.aload_n 0, 1) := dk_42 (dk_at dksX4_does_7 7 rfl rfl)
theorem dX4_does_188 : decode cX4_does 188 = .ok (.iload_n 2, 1) := dk_28 (dk_at dksX4_does_7 8 rfl rfl)
theorem dX4_does_189 : decode cX4_does 189 = .ok (.iload_n 3, 1) := dk_29 (dk_at dksX4_does_7 9 rfl rfl)
theorem dX4_does_190 : decode cX4_does 190 = .ok (.invokevirtual 172, 3) := dk_182 0 172 (dk_at dksX4_does_7 10 rfl rfl)
theorem dX4_does_193 : decode cX4_does 193 = .ok (.pop, 1) := dk_87 (dk_at dksX4_does_7 13 rfl rfl)
theorem dX4_does_194 : decode cX4_does 194 = .ok (.return_, 1) := dk_177 (dk_at dksX4_does_7 14 rfl rfl)
def dkwX4_errorPosition_1 : List UInt8 := [180, 0, 22, 172]
abbrev dktX4_errorPosition_1 : List UInt8 := dkwX4_errorPosition_1 ++ []
def dkwX4_errorPosition_0 : List UInt8 := [42, 3, 181, 0, 48, 42, 180, 0, 22, 2, 160, 0, 11, 42, 4, 182, 0, 88, 167, 0, 7, 42]
abbrev dktX4_errorPosition_0 : List UInt8 := dkwX4_errorPosition_0 ++ dktX4_errorPosition_1
theorem dksX4_errorPosition_0 : cX4_errorPosition.data.toList.drop 0 = dktX4_errorPosition_0 := by decide +kernel
theorem dksX4_errorPosition_1 : cX4_errorPosition.data.toList.drop 22 = dktX4_errorPosition_1 := dk_seg dksX4_errorPosition_0 22 rfl rfl
theorem dX4_errorPosition_0 : decode cX4_errorPosition 0 = .ok (.aload_n 0, 1) := dk_42 (dk_at dksX4_errorPosition_0 0 rfl rfl)
theorem dX4_errorPosition_1 : decode cX4_errorPosition 1 = .ok (.iconst 0, 1) := dk_3 (dk_at dksX4_errorPosition_0 1 rfl rfl)
theorem dX4_errorPosition_2 : decode cX4_errorPosition 2 = .ok (.putfield 48, 3) := dk_181 0 48 (dk_at dksX4_errorPosition_0 2 rfl rfl)
theorem dX4_errorPosition_5 : decode cX4_errorPosition 5 = .ok (.aload_n 0, 1) := dk_42 (dk_at dksX4_errorPosition_0 5 rfl rfl)
theorem dX4_errorPosition_6 : decode cX4_errorPosition 6 = .ok (.getfield 22, 3) := dk_180 0 22 (dk_at dksX4_errorPosition_0 6 rfl rfl)
theorem dX4_errorPosition_9 : decode cX4_errorPosition 9 = .ok (.iconst (-1), 1) := dk_2 (dk_at dksX4_errorPosition_0 9 rfl rfl)
theorem dX4_errorPosition_10 : decode cX4_errorPosition 10 = .ok (.if_icmp .ne 11, 3) := dk_160 0 11 (dk_at dksX4_errorPosition_0 10 rfl rfl)
theorem dX4_errorPosition_13 : decode cX4_errorPosition 13 = .ok (.aload_n 0, 1) := dk_42 (dk_at dksX4_errorPosition_0 13 rfl rfl)
theorem dX4_errorPosition_14 : decode cX4_errorPosition 14 = .ok (.iconst 1, 1) := dk_4 (dk_at dksX4_errorPosition_0 14 rfl rfl)
theorem dX4_errorPosition_15 : decode cX4_errorPosition 15 = .ok (.invokevirtual 88, 3) := dk_182 0 88 (dk_at dksX4_errorPosition_0 15 rfl rfl)
theorem dX4_errorPosition_18 : decode cX4_errorPosition 18 = .ok (.goto 7, 3) := dk_167 0 7 (dk_at dksX4_errorPosition_0 18 rfl rfl)
theorem dX4_errorPosition_21 : decode cX4_errorPosition 21 = .ok (.aload_n 0, 1) := dk_42 (dk_at dksX4_errorPosition_0 21 rfl rfl)
theorem dX4_errorPosition_22 : decode cX4_errorPosition 22 = .ok (.getfield 22, 3) := dk_180 0 22 (dk_at dksX4_errorPosition_1 0 rfl rfl)
theorem dX4_errorPosition_25 : decode cX4_errorPosition 25 = .ok (.ireturn, 1) := dk_172 (dk_at dksX4_errorPosition_1 3 rfl rfl)
def dkwX4_failedCommand_1 : List UInt8 := [180, 0, 26, 172]
abbrev dktX4_failedCommand_1 : List UInt8 := dkwX4_failedCommand_1 ++ []
def dkwX4_failedCommand_0 : List UInt8 := [42, 3, 181, 0, 48, 42, 180, 0, 26, 2, 160, 0, 11, 42, 4, 182, 0, 88, 167, 0, 7, 42]
abbrev dktX4_failedCommand_0 : List UInt8 := dkwX4_failedCommand_0 ++ dktX4_failedCommand_1
theorem dksX4_failedCommand_0 : cX4_failedCommand.data.toList.drop 0 = dktX4_failedCommand_0 := by decide +kernel
theorem dksX4_failedCommand_1 : cX4_failedCommand.data.toList.drop 22 = dktX4_failedCommand_1 := dk_seg dksX4_failedCommand_0 22 rfl rfl
theorem dX4_failedCommand_0 : decode cX4_failedCommand 0 = .ok (.aload_n 0, 1) := dk_42 (dk_at dksX4_failedCommand_0 0 rfl rfl)
theorem dX4_failedCommand_1 : decode cX4_failedCommand 1 = .ok (.iconst 0, 1) := dk_3 (dk_at dksX4_failedCommand_0 1 rfl rfl)
theorem dX4_failedCommand_2 : decode cX4_failedCommand 2 = .ok (.putfield 48, 3) := dk_181 0 48 (dk_at dksX4_failedCommand_0 2 rfl rfl)
theorem dX4_failedCommand_5 : decode cX4_failedCommand 5 = .ok (.aload_n 0, 1) := dk_42 (dk_at dksX4_failedCommand_0 5 rfl rfl)
theorem dX4_failedCommand_6 : decode cX4_failedCommand 6 = .ok (.getfield 26, 3) := dk_180 0 26 (dk_at dksX4_failedCommand_0 6 rfl rfl)
theorem dX4_failedCommand_9 : decode cX4_failedCommand 9 = .ok (.iconst (-1), 1) := dk_2 (dk_at dksX4_failedCommand_0 9 rfl rfl)
theorem dX4_failedCommand_10 : decode cX4_failedCommand 10 = .ok (.if_icmp .ne 11, 3) := dk_160 0 11 (dk_at dksX4_failedCommand_0 10 rfl rfl)
theorem dX4_failedCommand_13 : decode cX4_failedCommand 13 = .ok (.aload_n 0, 1) := dk_42 (dk_at dksX4_failedCommand_0 13 rfl rfl)
theorem dX4_failedCommand_14 : decode cX4_failedCommand 14 = .ok (.iconst 1, 1) := dk_4 (dk_at dksX4_failedCommand_0 14 rfl rfl)
theorem dX4_failedCommand_15 : decode cX4_failedCommand 15 = .ok (.invokevirtual 88, 3) := dk_182 0 88 (dk_at dksX4_failedCommand_0 15 rfl rfl)
theorem dX4_failedCommand_18 : decode cX4_failedCommand 18 = .ok (.goto 7, 3) := dk_167 0 7 (dk_at dksX4_failedCommand_0 18 rfl rfl)
theorem dX4_failedCommand_21 : decode cX4_failedCommand 21 = .ok (.aload_n 0, 1) := dk_42 (dk_at dksX4_failedCommand_0 21 rfl rfl)
theorem dX4_failedCommand_22 : decode cX4_failedCommand 22 = .ok (.getfield 26, 3) := dk_180 0 26 (dk_at dksX4_failedCommand_1 0 rfl rfl)
theorem dX4_failedCommand_25 : decode cX4_failedCommand 25 = .ok (.ireturn, 1) := dk_172 (dk_at dksX4_failedCommand_1 3 rfl rfl)
def dkwX4_undo_2 : List UInt8 := [17, 0, 213, 42, 180, 0, 51, 104, 27, 96, 46, 79, 132, 1, 1, 167, 255, 225, 42, 180, 0, 51, 172]
abbrev dktX4_undo_2 : List UInt8 := dkwX4_undo_2 ++ []
def dkwX4_undo_1 : List UInt8 := [100, 181, 0, 51, 3, 60, 27, 17, 0, 213, 162, 0, 30, 42, 180, 0, 9, 27, 42, 180, 0, 19]
abbrev dktX4_undo_1 : List UInt8 := dkwX4_undo_1 ++ dktX4_undo_2
def dkwX4_undo_0 : List UInt8 := [42, 3, 181, 0, 48, 42, 180, 0, 51, 154, 0, 9, 42, 4, 182, 0, 88, 172, 42, 89, 180, 0, 51, 4]
abbrev dktX4_undo_0 : List UInt8 := dkwX4_undo_0 ++ dktX4_undo_1
theorem dksX4_undo_0 : cX4_undo.data.toList.drop 0 = dktX4_undo_0 := by decide +kernel
theorem dksX4_undo_1 : cX4_undo.data.toList.drop 24 = dktX4_undo_1 := dk_seg dksX4_undo_0 24 rfl rfl
theorem dksX4_undo_2 : cX4_undo.data.toList.drop 46 = dktX4_undo_2 := dk_seg dksX4_undo_1 22 rfl rfl
theorem dX4_undo_0 : decode cX4_undo 0 = .ok (.aload_n 0, 1) := dk_42 (dk_at dksX4_undo_0 0 rfl rfl)
theorem dX4_undo_1 : decode cX4_undo 1 = .ok (.iconst 0, 1) := dk_3 (dk_at dksX4_undo_0 1 rfl rfl)
theorem dX4_undo_2 : decode cX4_undo 2 = .ok (.putfield 48, 3) := dk_181 0 48 (dk_at dksX4_undo_0 2 rfl rfl)
theorem dX4_undo_5 : decode cX4_undo 5 = .ok (.aload_n 0, 1) := dk_42 (dk_at dksX4_undo_0 5 rfl rfl)
theorem dX4_undo_6 : decode cX4_undo 6 = .ok (.getfield 51, 3) := dk_180 0 51 (dk_at dksX4_undo_0 6 rfl rfl)
theorem dX4_undo_9 : decode cX4_undo 9 = .ok (.ifCond .ne 9, 3) := dk_154 0 9 (dk_at dksX4_undo_0 9 rfl rfl)
theorem dX4_undo_12 : decode cX4_undo 12 = .ok (.aload_n 0, 1) := dk_42 (dk_at dksX4_undo_0 12 rfl rfl)
theorem dX4_undo_13 : decode cX4_undo 13 = .ok (.iconst 1, 1) := dk_4 (dk_at dksX4_undo_0 13 rfl rfl)
theorem dX4_undo_14 : decode cX4_undo 14 = .ok (.invokevirtual 88, 3) := dk_182 0 88 (dk_at dksX4_undo_0 14 rfl rfl)
theorem dX4_undo_17 : decode cX4_undo 17 = .ok (.ireturn, 1) := dk_172 (dk_at dksX4_undo_0 17 rfl rfl)
theorem dX4_undo_18 : decode cX4_undo 18 = .ok (.aload_n 0, 1) := dk_42 (dk_at dksX4_undo_0 18 rfl rfl)
theorem dX4_undo_19 : decode cX4_undo 19 = .ok (.dup, 1) := dk_89 (dk_at dksX4_undo_0 19 rfl rfl)
theorem dX4_undo_20 : decode cX4_undo 20 = .ok (.getfield 51, 3) := dk_180 0 51 (dk_at dksX4_undo_0 20 rfl rfl)
theorem dX4_undo_23 : decode cX4_undo 23 = .ok (.iconst 1, 1) := dk_4 (dk_at dksX4_undo_0 23 rfl rfl)
theorem dX4_undo_24 : decode cX4_undo 24 = .ok (.isub, 1) := dk_100 (dk_at dksX4_undo_1 0 rfl rfl)
theorem dX4_undo_25 : decode cX4_undo 25 = .ok (.putfield 51, 3) := dk_181 0 51 (dk_at dksX4_undo_1 1 rfl rfl)
theorem dX4_undo_28 : decode cX4_undo 28 = .ok (.iconst 0, 1) := dk_3 (dk_at dksX4_undo_1 4 rfl rfl)
theorem dX4_undo_29 : decode cX4_undo 29 = .ok (.istore_n 1, 1) := dk_60 (dk_at dksX4_undo_1 5 rfl rfl)
theorem dX4_undo_30 : decode cX4_undo 30 = .ok (.iload_n 1, 1) := dk_27 (dk_at dksX4_undo_1 6 rfl rfl)
theorem dX4_undo_31 : decode cX4_undo 31 = .ok (.sipush 213, 3) := dk_17 0 213 (dk_at dksX4_undo_1 7 rfl rfl)
theorem dX4_undo_34 : decode cX4_undo 34 = .ok (.if_icmp .ge 30, 3) := dk_162 0 30 (dk_at dksX4_undo_1 10 rfl rfl)
theorem dX4_undo_37 : decode cX4_undo 37 = .ok (.aload_n 0, 1) := dk_42 (dk_at dksX4_undo_1 13 rfl rfl)
theorem dX4_undo_38 : decode cX4_undo 38 = .ok (.getfield 9, 3) := dk_180 0 9 (dk_at dksX4_undo_1 14 rfl rfl)
theorem dX4_undo_41 : decode cX4_undo 41 = .ok (.iload_n 1, 1) := dk_27 (dk_at dksX4_undo_1 17 rfl rfl)
theorem dX4_undo_42 : decode cX4_undo 42 = .ok (.aload_n 0, 1) := dk_42 (dk_at dksX4_undo_1 18 rfl rfl)
theorem dX4_undo_43 : decode cX4_undo 43 = .ok (.getfield 19, 3) := dk_180 0 19 (dk_at dksX4_undo_1 19 rfl rfl)
theorem dX4_undo_46 : decode cX4_undo 46 = .ok (.sipush 213, 3) := dk_17 0 213 (dk_at dksX4_undo_2 0 rfl rfl)
theorem dX4_undo_49 : decode cX4_undo 49 = .ok (.aload_n 0, 1) := dk_42 (dk_at dksX4_undo_2 3 rfl rfl)
theorem dX4_undo_50 : decode cX4_undo 50 = .ok (.getfield 51, 3) := dk_180 0 51 (dk_at dksX4_undo_2 4 rfl rfl)
theorem dX4_undo_53 : decode cX4_undo 53 = .ok (.imul, 1) := dk_104 (dk_at dksX4_undo_2 7 rfl rfl)
theorem dX4_undo_54 : decode cX4_undo 54 = .ok (.iload_n 1, 1) := dk_27 (dk_at dksX4_undo_2 8 rfl rfl)
theorem dX4_undo_55 : decode cX4_undo 55 = .ok (.iadd, 1) := dk_96 (dk_at dksX4_undo_2 9 rfl rfl)
theorem dX4_undo_56 : decode cX4_undo 56 = .ok (.iaload, 1) := dk_46 (dk_at dksX4_undo_2 10 rfl rfl)
theorem dX4_undo_57 : decode cX4_undo 57 = .ok (.iastore, 1) := dk_79 (dk_at dksX4_undo_2 11 rfl rfl)
theorem dX4_undo_58 : decode cX4_undo 58 = .ok (.iinc 1 1, 3) := dk_132 1 1 (dk_at dksX4_undo_2 12 rfl rfl)
theorem dX4_undo_61 : decode cX4_undo 61 = .ok (.goto (-31), 3) := dk_167 255 225 (dk_at dksX4_undo_2 15 rfl rfl)
theorem dX4_undo_64 : decode cX4_undo 64 = .ok (.aload_n 0, 1) := dk_42 (dk_at dksX4_undo_2 18 rfl rfl)
theorem dX4_undo_65 : decode cX4_undo 65 = .ok (.getfield 51, 3) := dk_180 0 51 (dk_at dksX4_undo_2 19 rfl rfl)
theorem dX4_undo_68 : decode cX4_undo 68 = .ok (.ireturn, 1) := dk_172 (dk_at dksX4_undo_2 22 rfl rfl)
def dkwX4_save_1 : List UInt8 := [46, 79, 132, 1, 1, 167, 255, 234, 42, 4, 181, 1, 25, 42, 180, 0, 9, 4, 46, 172]
abbrev dktX4_save_1 : List UInt8 := dkwX4_save_1 ++ []
def dkwX4_save_0 : List UInt8 := [42, 3, 181, 0, 48, 3, 60, 27, 17, 0, 213, 162, 0, 21, 42, 180, 0, 16, 27, 42, 180, 0, 9, 27]
abbrev dktX4_save_0 : List UInt8 := dkwX4_save_0 ++ dktX4_save_1
theorem dksX4_save_0 : cX4_save.data.toList.drop 0 = dktX4_save_0 := by decide +kernel
theorem dksX4_save_1 : cX4_save.data.toList.drop 24 = dktX4_save_1 := dk_seg dksX4_save_0 24 rfl rfl
theorem dX4_save_0 : decode cX4_save 0 = .ok (.aload_n 0, 1) := dk_42 (dk_at dksX4_save_0 0 rfl rfl)
theorem dX4_save_1 : decode cX4_save 1 = .ok (.iconst 0, 1) := dk_3 (dk_at dksX4_save_0 1 rfl rfl)
theorem dX4_save_2 : decode cX4_save 2 = .ok (.putfield 48, 3) := dk_181 0 48 (dk_at dksX4_save_0 2 rfl rfl)
theorem dX4_save_5 : decode cX4_save 5 = .ok (.iconst 0, 1) := dk_3 (dk_at dksX4_save_0 5 rfl rfl)
theorem dX4_save_6 : decode cX4_save 6 = .ok (.istore_n 1, 1) := dk_60 (dk_at dksX4_save_0 6 rfl rfl)
theorem dX4_save_7 : decode cX4_save 7 = .ok (.iload_n 1, 1) := dk_27 (dk_at dksX4_save_0 7 rfl rfl)
theorem dX4_save_8 : decode cX4_save 8 = .ok (.sipush 213, 3) := dk_17 0 213 (dk_at dksX4_save_0 8 rfl rfl)
theorem dX4_save_11 : decode cX4_save 11 = .ok (.if_icmp .ge 21, 3) := dk_162 0 21 (dk_at dksX4_save_0 11 rfl rfl)
theorem dX4_save_14 : decode cX4_save 14 = .ok (.aload_n 0, 1) := dk_42 (dk_at dksX4_save_0 14 rfl rfl)
theorem dX4_save_15 : decode cX4_save 15 = .ok (.getfield 16, 3) := dk_180 0 16 (dk_at dksX4_save_0 15 rfl rfl)
theorem dX4_save_18 : decode cX4_save 18 = .ok (.iload_n 1, 1) := dk_27 (dk_at dksX4_save_0 18 rfl rfl)
theorem dX4_save_19 : decode cX4_save 19 = .ok (.aload_n 0, 1) := dk_42 (dk_at dksX4_save_0 19 rfl rfl)
theorem dX4_save_20 : decode cX4_save 20 = .ok (.getfield 9, 3) := dk_180 0 9 (dk_at dksX4_save_0 20 rfl rfl)
theorem dX4_save_23 : decode cX4_save 23 = .ok (.iload_n 1, 1) := dk_27 (dk_at dksX4_save_0 23 rfl rfl)
theorem dX4_save_24 : decode cX4_save 24 = .ok (.iaload, 1) := dk_46 (dk_at dksX4_save_1 0 rfl rfl)
theorem dX4_save_25 : decode cX4_save 25 = .ok (.iastore, 1) := dk_79 (dk_at dksX4_save_1 1 rfl rfl)
theorem dX4_save_26 : decode cX4_save 26 = .ok (.iinc 1 1, 3) := dk_132 1 1 (dk_at dksX4_save_1 2 rfl rfl)
theorem dX4_save_29 : decode cX4_save 29 = .ok (.goto (-22), 3) := dk_167 255 234 (dk_at dksX4_save_1 5 rfl rfl)
theorem dX4_save_32 : decode cX4_save 32 = .ok (.aload_n 0, 1) := dk_42 (dk_at dksX4_save_1 8 rfl rfl)
theorem dX4_save_33 : decode cX4_save 33 = .ok (.iconst 1, 1) := dk_4 (dk_at dksX4_save_1 9 rfl rfl)
theorem dX4_save_34 : decode cX4_save 34 = .ok (.putfield 281, 3) := dk_181 1 25 (dk_at dksX4_save_1 10 rfl rfl)
theorem dX4_save_37 : decode cX4_save 37 = .ok (.aload_n 0, 1) := dk_42 (dk_at dksX4_save_1 13 rfl rfl)
theorem dX4_save_38 : decode cX4_save 38 = .ok (.getfield 9, 3) := dk_180 0 9 (dk_at dksX4_save_1 14 rfl rfl)
theorem dX4_save_41 : decode cX4_save 41 = .ok (.iconst 1, 1) := dk_4 (dk_at dksX4_save_1 17 rfl rfl)
theorem dX4_save_42 : decode cX4_save 42 = .ok (.iaload, 1) := dk_46 (dk_at dksX4_save_1 18 rfl rfl)
theorem dX4_save_43 : decode cX4_save 43 = .ok (.ireturn, 1) := dk_172 (dk_at dksX4_save_1 19 rfl rfl)
def dkwX4_restore_2 : List UInt8 := [181, 0, 51, 42, 180, 0, 9, 4, 46, 172]
abbrev dktX4_restore_2 : List UInt8 := dkwX4_restore_2 ++ []
def dkwX4_restore_1 : List UInt8 := [162, 0, 21, 42, 180, 0, 9, 27, 42, 180, 0, 16, 27, 46, 79, 132, 1, 1, 167, 255, 234, 42, 3]
abbrev dktX4_restore_1 : List UInt8 := dkwX4_restore_1 ++ dktX4_restore_2
def dkwX4_restore_0 : List UInt8 := [42, 3, 181, 0, 48, 42, 180, 1, 25, 154, 0, 9, 42, 4, 182, 0, 88, 172, 3, 60, 27, 17, 0, 213]
abbrev dktX4_restore_0 : List UInt8 := dkwX4_restore_0 ++ dktX4_restore_1
theorem dksX4_restore_0 : cX4_restore.data.toList.drop 0 = dktX4_restore_0 := by decide +kernel
theorem dksX4_restore_1 : cX4_restore.data.toList.drop 24 = dktX4_restore_1 := dk_seg dksX4_restore_0 24 rfl rfl
theorem dksX4_restore_2 : cX4_restore.data.toList.drop 47 = dktX4_restore_2 := dk_seg dksX4_restore_1 23 rfl rfl
theorem dX4_restore_0 : decode cX4_restore 0 = .ok (.aload_n 0, 1) := dk_42 (dk_at dksX4_restore_0 0 rfl rfl)
theorem dX4_restore_1 : decode cX4_restore 1 = .ok (.iconst 0, 1) := dk_3 (dk_at dksX4_restore_0 1 rfl rfl)
theorem dX4_restore_2 : decode cX4_restore 2 = .ok (.putfield 48, 3) := dk_181 0 48 (dk_at dksX4_restore_0 2 rfl rfl)
theorem dX4_restore_5 : decode cX4_restore 5 = .ok (.aload_n 0, 1) := dk_42 (dk_at dksX4_restore_0 5 rfl rfl)
theorem dX4_restore_6 : decode cX4_restore 6 = .ok (.getfield 281, 3) := dk_180 1 25 (dk_at dksX4_restore_0 6 rfl rfl)
theorem dX4_restore_9 : decode cX4_restore 9 = .ok (.ifCond .ne 9, 3) := dk_154 0 9 (dk_at dksX4_restore_0 9 rfl rfl)
theorem dX4_restore_12 : decode cX4_restore 12 = .ok (.aload_n 0, 1) := dk_42 (dk_at dksX4_restore_0 12 rfl rfl)
theorem dX4_restore_13 : decode cX4_restore 13 = .ok (.iconst 1, 1) := dk_4 (dk_at dksX4_restore_0 13 rfl rfl)
theorem dX4_restore_14 : decode cX4_restore 14 = .ok (.invokevirtual 88, 3) := dk_182 0 88 (dk_at dksX4_restore_0 14 rfl rfl)
theorem dX4_restore_17 : decode cX4_restore 17 = .ok (.ireturn, 1) := dk_172 (dk_at dksX4_restore_0 17 rfl rfl)
theorem dX4_restore_18 : decode cX4_restore 18 = .ok (.iconst 0, 1) := dk_3 (dk_at dksX4_restore_0 18 rfl rfl)
theorem dX4_restore_19 : decode cX4_restore 19 = .ok (.istore_n 1, 1) := dk_60 (dk_at dksX4_restore_0 19 rfl rfl)
theorem dX4_restore_20 : decode cX4_restore 20 = .ok (.iload_n 1, 1) := dk_27 (dk_at dksX4_restore_0 20 rfl rfl)
theorem dX4_restore_21 : decode cX4_restore 21 = .ok (.sipush 213, 3) := dk_17 0 213 (dk_at dksX4_restore_0 21 rfl rfl)
theorem dX4_restore_24 : decode cX4_restore 24 = .ok (.if_icmp .ge 21, 3) := dk_162 0 21 (dk_at dksX4_restore_1 0 rfl rfl)
theorem dX4_restore_27 : decode cX4_restore 27 = .ok (.aload_n 0, 1) := dk_42 (dk_at dksX4_restore_1 3 rfl rfl)
theorem dX4_restore_28 : decode cX4_restore 28 = .ok (.getfield 9, 3) := dk_180 0 9 (dk_at dksX4_restore_1 4 rfl rfl)
theorem dX4_restore_31 : decode cX4_restore 31 = .ok (.iload_n 1, 1) := dk_27 (dk_at dksX4_restore_1 7 rfl rfl)
theorem dX4_restore_32 : decode cX4_restore 32 = .ok (.aload_n 0, 1) := dk_42 (dk_at dksX4_restore_1 8 rfl rfl)
theorem dX4_restore_33 : decode cX4_restore 33 = .ok (.getfield 16, 3) := dk_180 0 16 (dk_at dksX4_restore_1 9 rfl rfl)
theorem dX4_restore_36 : decode cX4_restore 36 = .ok (.iload_n 1, 1) := dk_27 (dk_at dksX4_restore_1 12 rfl rfl)
theorem dX4_restore_37 : decode cX4_restore 37 = .ok (.iaload, 1) := dk_46 (dk_at dksX4_restore_1 13 rfl rfl)
theorem dX4_restore_38 : decode cX4_restore 38 = .ok (.iastore, 1) := dk_79 (dk_at dksX4_restore_1 14 rfl rfl)
theorem dX4_restore_39 : decode cX4_restore 39 = .ok (.iinc 1 1, 3) := dk_132 1 1 (dk_at dksX4_restore_1 15 rfl rfl)
theorem dX4_restore_42 : decode cX4_restore 42 = .ok (.goto (-22), 3) := dk_167 255 234 (dk_at dksX4_restore_1 18 rfl rfl)
theorem dX4_restore_45 : decode cX4_restore 45 = .ok (.aload_n 0, 1) := dk_42 (dk_at dksX4_restore_1 21 rfl rfl)
theorem dX4_restore_46 : decode cX4_restore 46 = .ok (.iconst 0, 1) := dk_3 (dk_at dksX4_restore_1 22 rfl rfl)
theorem dX4_restore_47 : decode cX4_restore 47 = .ok (.putfield 51, 3) := dk_181 0 51 (dk_at dksX4_restore_2 0 rfl rfl)
theorem dX4_restore_50 : decode cX4_restore 50 = .ok (.aload_n 0, 1) := dk_42 (dk_at dksX4_restore_2 3 rfl rfl)
theorem dX4_restore_51 : decode cX4_restore 51 = .ok (.getfield 9, 3) := dk_180 0 9 (dk_at dksX4_restore_2 4 rfl rfl)
theorem dX4_restore_54 : decode cX4_restore 54 = .ok (.iconst 1, 1) := dk_4 (dk_at dksX4_restore_2 7 rfl rfl)
theorem dX4_restore_55 : decode cX4_restore 55 = .ok (.iaload, 1) := dk_46 (dk_at dksX4_restore_2 8 rfl rfl)
theorem dX4_restore_56 : decode cX4_restore 56 = .ok (.ireturn, 1) := dk_172 (dk_at dksX4_restore_2 9 rfl rfl)
def tX4_init_0 : pb_T := [(0, .aload_n 0, 1, 0), (1, .invokespecial 1, 4, 0), (4, .aload_n 0, 5, 0), (5, .sipush 213, 8, 0), (8, .newarray .int, 10, 0), (10, .putfield 9, 13, 0), (13, .aload_n 0, 14, 0), (14, .sipush 213, 17, 0), (17, .newarray .int, 19, 0), (19, .putfield 13, 22, 0), (22, .aload_n 0, 23, 0), (23, .sipush 213, 26, 0), (26, .newarray .int, 28, 0), (28, .putfield 16, 31, 0), (31, .aload_n 0, 32, 0), (32, .sipush 1704, 35, 0), (35, .newarray .int, 37, 0), (37, .putfield 19, 40, 0), (40, .aload_n 0, 41, 0), (41, .iconst (-1), 42, 0), (42, .putfield 22, 45, 0), (45, .aload_n 0, 46, 0), (46, .iconst (-1), 47, 0), (47, .putfield 26, 50, 0), (50, .aload_n 0, 51, 0), (51, .bipush 60, 53, 0), (53, .newarray .int, 55, 0), (55, .putfield 29, 58, 0), (58, .aload_n 0, 59, 0), (59, .bipush 8, 61, 0), (61, .newarray .int, 63, 0), (63, .putfield 32, 66, 0), (66, .aload_n 0, 67, 0), (67, .bipush 100, 69, 0), (69, .newarray .int, 71, 0), (71, .putfield 35, 74, 0), (74, .aload_n 0, 75, 0), (75, .bipush 66, 77, 0), (77, .newarray .char, 79, 0), (79, .dup, 80, 0), (80, .iconst 0, 81, 0), (81, .bipush 104, 83, 0), (83, .castore, 84, 0), (84, .dup, 85, 0), (85, .iconst 1, 86, 0), (86, .bipush 117, 88, 0), (88, .castore, 89, 0), (89, .dup, 90, 0), (90, .iconst 2, 91, 0), (91, .bipush 108, 93, 0), (93, .castore, 94, 0), (94, .dup, 95, 0), (95, .iconst 3, 96, 0), (96, .bipush 108, 98, 0), (98, .castore, 99, 0), (99, .dup, 100, 0), (100, .iconst 4, 101, 0), (101, .bipush 102, 103, 0), (103, .castore, 104, 0), (104, .dup, 105, 0)]
theorem tX4_init_0_ok : pb_Tok cX4_init tX4_init_0 := pb_Tok.cons dX4_init_0 rfl (pb_Tok.cons dX4_init_1 rfl (pb_Tok.cons dX4_init_4 rfl (pb_Tok.cons dX4_init_5 rfl (pb_Tok.cons dX4_init_8 rfl (pb_Tok.cons dX4_init_10 rfl (pb_Tok.cons dX4_init_13 rfl (pb_Tok.cons dX4_init_14 rfl (pb_Tok.cons dX4_init_17 rfl (pb_Tok.cons dX4_init_19 rfl (pb_Tok.cons dX4_init_22 rfl (pb_Tok.cons dX4_init_23 rfl (pb_Tok.cons dX4_init_26 rfl (pb_Tok.cons dX4_init_28 rfl (pb_Tok.cons dX4_init_31 rfl (pb_Tok.cons dX4_init_32 rfl (pb_Tok.cons dX4_init_35 rfl (pb_Tok.cons dX4_init_37 rfl (pb_Tok.cons dX4_init_40 rfl (pb_Tok.cons dX4_init_41 rfl (pb_Tok.cons dX4_init_42 rfl (pb_Tok.cons dX4_init_45 rfl (pb_Tok.cons dX4_init_46 rfl (pb_Tok.cons dX4_init_47 rfl (pb_Tok.cons dX4_init_50 rfl (pb_Tok.cons dX4_init_51 rfl (pb_Tok.cons dX4_init_53 rfl (pb_Tok.cons dX4_init_55 rfl (pb_Tok.cons dX4_init_58 rfl (pb_Tok.cons dX4_init_59 rfl (pb_Tok.cons dX4_init_61 rfl (pb_Tok.cons dX4_init_63 rfl (pb_Tok.cons dX4_init_66 rfl (pb_Tok.cons dX4_init_67 rfl (pb_Tok.cons dX4_init_69 rfl (pb_Tok.cons dX4_init_71 rfl (pb_Tok.cons dX4_init_74 rfl (pb_Tok.cons dX4_init_75 rfl (pb_Tok.cons dX4_init_77 rfl (pb_Tok.cons dX4_init_79 rfl (pb_Tok.cons dX4_init_80 rfl (pb_Tok.cons dX4_init_81 rfl (pb_Tok.cons dX4_init_83 rfl (pb_Tok.cons dX4_init_84 rfl (pb_Tok.cons dX4_init_85 rfl (pb_Tok.cons dX4_init_86 rfl (pb_Tok.cons dX4_init_88 rfl (pb_Tok.cons dX4_init_89 rfl (pb_Tok.cons dX4_init_90 rfl (pb_Tok.cons dX4_init_91 rfl (pb_Tok.cons dX4_init_93 rfl (pb_Tok.cons dX4_init_94 rfl (pb_Tok.cons dX4_init_95 rfl (pb_Tok.cons dX4_init_96 rfl (pb_Tok.cons dX4_init_98 rfl (pb_Tok.cons dX4_init_99 rfl (pb_Tok.cons dX4_init_100 rfl (pb_Tok.cons dX4_init_101 rfl (pb_Tok.cons dX4_init_103 rfl (pb_Tok.cons dX4_init_104 rfl pb_Tok.nil)))))))))))))))))))))))))))))))))))))))))))))))))))))))))))
def tX4_init_1 : pb_T := [(105, .iconst 5, 106, 0), (106, .bipush 114, 108, 0), (108, .castore, 109, 0), (109, .dup, 110, 0), (110, .bipush 6, 112, 0), (112, .bipush 97, 114, 0), (114, .castore, 115, 0), (115, .dup, 116, 0), (116, .bipush 7, 118, 0), (118, .bipush 109, 120, 0), (120, .castore, 121, 0), (121, .dup, 122, 0), (122, .bipush 8, 124, 0), (124, .bipush 101, 126, 0), (126, .castore, 127, 0), (127, .dup, 128, 0), (128, .bipush 9, 130, 0), (130, .bipush 32, 132, 0), (132, .castore, 133, 0), (133, .dup, 134, 0), (134, .bipush 10, 136, 0), (136, .bipush 109, 138, 0), (138, .castore, 139, 0), (139, .dup, 140, 0), (140, .bipush 11, 142, 0), (142, .bipush 105, 144, 0), (144, .castore, 145, 0), (145, .dup, 146, 0), (146, .bipush 12, 148, 0), (148, .bipush 114, 150, 0), (150, .castore, 151, 0), (151, .dup, 152, 0), (152, .bipush 13, 154, 0), (154, .bipush 114, 156, 0), (156, .castore, 157, 0), (157, .dup, 158, 0), (158, .bipush 14, 160, 0), (160, .bipush 111, 162, 0), (162, .castore, 163, 0), (163, .dup, 164, 0), (164, .bipush 15, 166, 0), (166, .bipush 114, 168, 0), (168, .castore, 169, 0), (169, .dup, 170, 0), (170, .bipush 16, 172, 0), (172, .bipush 32, 174, 0), (174, .castore, 175, 0), (175, .dup, 176, 0), (176, .bipush 17, 178, 0), (178, .bipush 99, 180, 0), (180, .castore, 181, 0), (181, .dup, 182, 0), (182, .bipush 18, 184, 0), (184, .bipush 97, 186, 0), (186, .castore, 187, 0), (187, .dup, 188, 0), (188, .bipush 19, 190, 0), (190, .bipush 114, 192, 0), (192, .castore, 193, 0), (193, .dup, 194, 0)]
theorem tX4_init_1_ok : pb_Tok cX4_init tX4_init_1 := pb_Tok.cons dX4_init_105 rfl (pb_Tok.cons dX4_init_106 rfl (pb_Tok.cons dX4_init_108 rfl (pb_Tok.cons dX4_init_109 rfl (pb_Tok.cons dX4_init_110 rfl (pb_Tok.cons dX4_init_112 rfl (pb_Tok.cons dX4_init_114 rfl (pb_Tok.cons dX4_init_115 rfl (pb_Tok.cons dX4_init_116 rfl (pb_Tok.cons dX4_init_118 rfl (pb_Tok.cons dX4_init_120 rfl (pb_Tok.cons dX4_init_121 rfl (pb_Tok.cons dX4_init_122 rfl (pb_Tok.cons dX4_init_124 rfl (pb_Tok.cons dX4_init_126 rfl (pb_Tok.cons dX4_init_127 rfl (pb_Tok.cons dX4_init_128 rfl (pb_Tok.cons dX4_init_130 rfl (pb_Tok.cons dX4_init_132 rfl (pb_Tok.cons dX4_init_133 rfl (pb_Tok.cons dX4_init_134 rfl (pb_Tok.cons dX4_init_136 rfl (pb_Tok.cons dX4_init_138 rfl (pb_Tok.cons dX4_init_139 rfl (pb_Tok.cons dX4_init_140 rfl (pb_Tok.cons dX4_init_142 rfl (pb_Tok.cons dX4_init_144 rfl (pb_Tok.cons dX4_init_145 rfl (pb_Tok.cons dX4_init_146 rfl (pb_Tok.cons dX4_init_148 rfl (pb_Tok.cons dX4_init_150 rfl (pb_Tok.cons dX4_init_151 rfl (pb_Tok.cons dX4_init_152 rfl (pb_Tok.cons dX4_init_154 rfl (pb_Tok.cons dX4_init_156 rfl (pb_Tok.cons dX4_init_157 rfl (pb_Tok.cons dX4_init_158 rfl (pb_Tok.cons dX4_init_160 rfl (pb_Tok.cons dX4_init_162 rfl (pb_Tok.cons dX4_init_163 rfl (pb_Tok.cons dX4_init_164 rfl (pb_Tok.cons dX4_init_166 rfl (pb_Tok.cons dX4_init_168 rfl (pb_Tok.cons dX4_init_169 rfl (pb_Tok.cons dX4_init_170 rfl (pb_Tok.cons dX4_init_172 rfl (pb_Tok.cons dX4_init_174 rfl (pb_Tok.cons dX4_init_175 rfl (pb_Tok.cons dX4_init_176 rfl (pb_Tok.cons dX4_init_178 rfl (pb_Tok.cons dX4_init_180 rfl (pb_Tok.cons dX4_init_181 rfl (pb_Tok.cons dX4_init_182 rfl (pb_Tok.cons dX4_init_184 rfl (pb_Tok.cons dX4_init_186 rfl (pb_Tok.cons dX4_init_187 rfl (pb_Tok.cons dX4_init_188 rfl (pb_Tok.cons dX4_init_190 rfl (pb_Tok.cons dX4_init_192 rfl (pb_Tok.cons dX4_init_193 rfl pb_Tok.nil)))))))))))))))))))))))))))))))))))))))))))))))))))))))))))
def tX4_init_2 : pb_T := [(194, .bipush 20, 196, 0), (196, .bipush 103, 198, 0), (198, .castore, 199, 0), (199, .dup, 200, 0), (200, .bipush 21, 202, 0), (202, .bipush 111, 204, 0), (204, .castore, 205, 0), (205, .dup, 206, 0), (206, .bipush 22, 208, 0), (208, .bipush 32, 210, 0), (210, .castore, 211, 0), (211, .dup, 212, 0), (212, .bipush 23, 214, 0), (214, .bipush 108, 216, 0), (216, .castore, 217, 0), (217, .dup, 218, 0), (218, .bipush 24, 220, 0), (220, .bipush 97, 222, 0), (222, .castore, 223, 0), (223, .dup, 224, 0), (224, .bipush 25, 226, 0), (226, .bipush 117, 228, 0), (228, .castore, 229, 0), (229, .dup, 230, 0), (230, .bipush 26, 232, 0), (232, .bipush 110, 234, 0), (234, .castore, 235, 0), (235, .dup, 236, 0), (236, .bipush 27, 238, 0), (238, .bipush 99, 240, 0), (240, .castore, 241, 0), (241, .dup, 242, 0), (242, .bipush 28, 244, 0), (244, .bipush 104, 246, 0), (246, .castore, 247, 0), (247, .dup, 248, 0), (248, .bipush 29, 250, 0), (250, .bipush 32, 252, 0), (252, .castore, 253, 0), (253, .dup, 254, 0), (254, .bipush 30, 256, 0), (256, .bipush 99, 258, 0), (258, .castore, 259, 0), (259, .dup, 260, 0), (260, .bipush 31, 262, 0), (262, .bipush 97, 264, 0), (264, .castore, 265, 0), (265, .dup, 266, 0), (266, .bipush 32, 268, 0), (268, .bipush 117, 270, 0), (270, .castore, 271, 0), (271, .dup, 272, 0), (272, .bipush 33, 274, 0), (274, .bipush 108, 276, 0), (276, .castore, 277, 0), (277, .dup, 278, 0), (278, .bipush 34, 280, 0), (280, .bipush 107, 282, 0), (282, .castore, 283, 0), (283, .dup, 284, 0)]
theorem tX4_init_2_ok : pb_Tok cX4_init tX4_init_2 := pb_Tok.cons dX4_init_194 rfl (pb_Tok.cons dX4_init_196 rfl (pb_Tok.cons dX4_init_198 rfl (pb_Tok.cons dX4_init_199 rfl (pb_Tok.cons dX4_init_200 rfl (pb_Tok.cons dX4_init_202 rfl (pb_Tok.cons dX4_init_204 rfl (pb_Tok.cons dX4_init_205 rfl (pb_Tok.cons dX4_init_206 rfl (pb_Tok.cons dX4_init_208 rfl (pb_Tok.cons dX4_init_210 rfl (pb_Tok.cons dX4_init_211 rfl (pb_Tok.cons dX4_init_212 rfl (pb_Tok.cons dX4_init_214 rfl (pb_Tok.cons dX4_init_216 rfl (pb_Tok.cons dX4_init_217 rfl (pb_Tok.cons dX4_init_218 rfl (pb_Tok.cons dX4_init_220 rfl (pb_Tok.cons dX4_init_222 rfl (pb_Tok.cons dX4_init_223 rfl (pb_Tok.cons dX4_init_224 rfl (pb_Tok.cons dX4_init_226 rfl (pb_Tok.cons dX4_init_228 rfl (pb_Tok.cons dX4_init_229 rfl (pb_Tok.cons dX4_init_230 rfl (pb_Tok.cons dX4_init_232 rfl (pb_Tok.cons dX4_init_234 rfl (pb_Tok.cons dX4_init_235 rfl (pb_Tok.cons dX4_init_236 rfl (pb_Tok.cons dX4_init_238 rfl (pb_Tok.cons dX4_init_240 rfl (pb_Tok.cons dX4_init_241 rfl (pb_Tok.cons dX4_init_242 rfl (pb_Tok.cons dX4_init_244 rfl (pb_Tok.cons dX4_init_246 rfl (pb_Tok.cons dX4_init_247 rfl (pb_Tok.cons dX4_init_248 rfl (pb_Tok.cons dX4_init_250 rfl (pb_Tok.cons dX4_init_252 rfl (pb_Tok.cons dX4_init_253 rfl (pb_Tok.cons dX4_init_254 rfl (pb_Tok.cons dX4_init_256 rfl (pb_Tok.cons dX4_init_258 rfl (pb_Tok.cons dX4_init_259 rfl (pb_Tok.cons dX4_init_260 rfl (pb_Tok.cons dX4_init_262 rfl (pb_Tok.cons dX4_init_264 rfl (pb_Tok.cons dX4_init_265 rfl (pb_Tok.cons dX4_init_266 rfl (pb_Tok.cons dX4_init_268 rfl (pb_Tok.cons dX4_init_270 rfl (pb_Tok.cons dX4_init_271 rfl (pb_Tok.cons dX4_init_272 rfl (pb_Tok.cons dX4_init_274 rfl (pb_Tok.cons dX4_init_276 rfl (pb_Tok.cons dX4_init_277 rfl (pb_Tok.cons dX4_init_278 rfl (pb_Tok.cons dX4_init_280 rfl (pb_Tok.cons dX4_init_282 rfl (pb_Tok.cons dX4_init_283 rfl pb_Tok.nil)))))))))))))))))))))))))))))))))))))))))))))))))))))))))))
def tX4_init_3 : pb_T := [(284, .bipush 35, 286, 0), (286, .bipush 32, 288, 0), (288, .castore, 289, 0), (289, .dup, 290, 0), (290, .bipush 36, 292, 0), (292, .bipush 112, 294, 0), (294, .castore, 295, 0), (295, .dup, 296, 0), (296, .bipush 37, 298, 0), (298, .bipush 117, 300, 0), (300, .castore, 301, 0), (301, .dup, 302, 0), (302, .bipush 38, 304, 0), (304, .bipush 109, 306, 0), (306, .castore, 307, 0), (307, .dup, 308, 0), (308, .bipush 39, 310, 0), (310, .bipush 112, 312, 0), (312, .castore, 313, 0), (313, .dup, 314, 0), (314, .bipush 40, 316, 0), (316, .bipush 32, 318, 0), (318, .castore, 319, 0), (319, .dup, 320, 0), (320, .bipush 41, 322, 0), (322, .bipush 104, 324, 0), (324, .castore, 325, 0), (325, .dup, 326, 0), (326, .bipush 42, 328, 0), (328, .bipush 111, 330, 0), (330, .castore, 331, 0), (331, .dup, 332, 0), (332, .bipush 43, 334, 0), (334, .bipush 117, 336, 0), (336, .castore, 337, 0), (337, .dup, 338, 0), (338, .bipush 44, 340, 0), (340, .bipush 114, 342, 0), (342, .castore, 343, 0), (343, .dup, 344, 0), (344, .bipush 45, 346, 0), (346, .bipush 115, 348, 0), (348, .castore, 349, 0), (349, .dup, 350, 0), (350, .bipush 46, 352, 0), (352, .bipush 32, 354, 0), (354, .castore, 355, 0), (355, .dup, 356, 0), (356, .bipush 47, 358, 0), (358, .bipush 116, 360, 0), (360, .castore, 361, 0), (361, .dup, 362, 0), (362, .bipush 48, 364, 0), (364, .bipush 105, 366, 0), (366, .castore, 367, 0), (367, .dup, 368, 0), (368, .bipush 49, 370, 0), (370, .bipush 100, 372, 0), (372, .castore, 373, 0), (373, .dup, 374, 0)]
theorem tX4_init_3_ok : pb_Tok cX4_init tX4_init_3 := pb_Tok.cons dX4_init_284 rfl (pb_Tok.cons dX4_init_286 rfl (pb_Tok.cons dX4_init_288 rfl (pb_Tok.cons dX4_init_289 rfl (pb_Tok.cons dX4_init_290 rfl (pb_Tok.cons dX4_init_292 rfl (pb_Tok.cons dX4_init_294 rfl (pb_Tok.cons dX4_init_295 rfl (pb_Tok.cons dX4_init_296 rfl (pb_Tok.cons dX4_init_298 rfl (pb_Tok.cons dX4_init_300 rfl (pb_Tok.cons dX4_init_301 rfl (pb_Tok.cons dX4_init_302 rfl (pb_Tok.cons dX4_init_304 rfl (pb_Tok.cons dX4_init_306 rfl (pb_Tok.cons dX4_init_307 rfl (pb_Tok.cons dX4_init_308 rfl (pb_Tok.cons dX4_init_310 rfl (pb_Tok.cons dX4_init_312 rfl (pb_Tok.cons dX4_init_313 rfl (pb_Tok.cons dX4_init_314 rfl (pb_Tok.cons dX4_init_316 rfl (pb_Tok.cons dX4_init_318 rfl (pb_Tok.cons dX4_init_319 rfl (pb_Tok.cons dX4_init_320 rfl (pb_Tok.cons dX4_init_322 rfl (pb_Tok.cons dX4_init_324 rfl (pb_Tok.cons dX4_init_325 rfl (pb_Tok.cons dX4_init_326 rfl (pb_Tok.cons dX4_init_328 rfl (pb_Tok.cons dX4_init_330 rfl (pb_Tok.cons dX4_init_331 rfl (pb_Tok.cons dX4_init_332 rfl (pb_Tok.cons dX4_init_334 rfl (pb_Tok.cons dX4_init_336 rfl (pb_Tok.cons dX4_init_337 rfl (pb_Tok.cons dX4_init_338 rfl (pb_Tok.cons dX4_init_340 rfl (pb_Tok.cons dX4_init_342 rfl (pb_Tok.cons dX4_init_343 rfl (pb_Tok.cons dX4_init_344 rfl (pb_Tok.cons dX4_init_346 rfl (pb_Tok.cons dX4_init_348 rfl (pb_Tok.cons dX4_init_349 rfl (pb_Tok.cons dX4_init_350 rfl (pb_Tok.cons dX4_init_352 rfl (pb_Tok.cons dX4_init_354 rfl (pb_Tok.cons dX4_init_355 rfl (pb_Tok.cons dX4_init_356 rfl (pb_Tok.cons dX4_init_358 rfl (pb_Tok.cons dX4_init_360 rfl (pb_Tok.cons dX4_init_361 rfl (pb_Tok.cons dX4_init_362 rfl (pb_Tok.cons dX4_init_364 rfl (pb_Tok.cons dX4_init_366 rfl (pb_Tok.cons dX4_init_367 rfl (pb_Tok.cons dX4_init_368 rfl (pb_Tok.cons dX4_init_370 rfl (pb_Tok.cons dX4_init_372 rfl (pb_Tok.cons dX4_init_373 rfl pb_Tok.nil)))))))))))))))))))))))))))))))))))))))))))))))))))))))))))
def tX4_init_4 : pb_T := [(374, .bipush 50, 376, 0), (376, .bipush 101, 378, 0), (378, .castore, 379, 0), (379, .dup, 380, 0), (380, .bipush 51, 382, 0), (382, .bipush 32, 384, 0), (384, .castore, 385, 0), (385, .dup, 386, 0), (386, .bipush 52, 388, 0), (388, .bipush 111, 390, 0), (390, .castore, 391, 0), (391, .dup, 392, 0), (392, .bipush 53, 394, 0), (394, .bipush 114, 396, 0), (396, .castore, 397, 0), (397, .dup, 398, 0), (398, .bipush 54, 400, 0), (400, .bipush 100, 402, 0), (402, .castore, 403, 0), (403, .dup, 404, 0), (404, .bipush 55, 406, 0), (406, .bipush 101, 408, 0), (408, .castore, 409, 0), (409, .dup, 410, 0), (410, .bipush 56, 412, 0), (412, .bipush 114, 414, 0), (414, .castore, 415, 0), (415, .dup, 416, 0), (416, .bipush 57, 418, 0), (418, .bipush 32, 420, 0), (420, .castore, 421, 0), (421, .dup, 422, 0), (422, .bipush 58, 424, 0), (424, .bipush 100, 426, 0), (426, .castore, 427, 0), (427, .dup, 428, 0), (428, .bipush 59, 430, 0), (430, .bipush 101, 432, 0), (432, .castore, 433, 0), (433, .dup, 434, 0), (434, .bipush 60, 436, 0), (436, .bipush 108, 438, 0), (438, .castore, 439, 0), (439, .dup, 440, 0), (440, .bipush 61, 442, 0), (442, .bipush 105, 444, 0), (444, .castore, 445, 0), (445, .dup, 446, 0), (446, .bipush 62, 448, 0), (448, .bipush 118, 450, 0), (450, .castore, 451, 0), (451, .dup, 452, 0), (452, .bipush 63, 454, 0), (454, .bipush 101, 456, 0), (456, .castore, 457, 0), (457, .dup, 458, 0), (458, .bipush 64, 460, 0), (460, .bipush 114, 462, 0), (462, .castore, 463, 0), (463, .dup, 464, 0)]
theorem tX4_init_4_ok : pb_Tok cX4_init tX4_init_4 := pb_Tok.cons dX4_init_374 rfl (pb_Tok.cons dX4_init_376 rfl (pb_Tok.cons dX4_init_378 rfl (pb_Tok.cons dX4_init_379 rfl (pb_Tok.cons dX4_init_380 rfl (pb_Tok.cons dX4_init_382 rfl (pb_Tok.cons dX4_init_384 rfl (pb_Tok.cons dX4_init_385 rfl (pb_Tok.cons dX4_init_386 rfl (pb_Tok.cons dX4_init_388 rfl (pb_Tok.cons dX4_init_390 rfl (pb_Tok.cons dX4_init_391 rfl (pb_Tok.cons dX4_init_392 rfl (pb_Tok.cons dX4_init_394 rfl (pb_Tok.cons dX4_init_396 rfl (pb_Tok.cons dX4_init_397 rfl (pb_Tok.cons dX4_init_398 rfl (pb_Tok.cons dX4_init_400 rfl (pb_Tok.cons dX4_init_402 rfl (pb_Tok.cons dX4_init_403 rfl (pb_Tok.cons dX4_init_404 rfl (pb_Tok.cons dX4_init_406 rfl (pb_Tok.cons dX4_init_408 rfl (pb_Tok.cons dX4_init_409 rfl (pb_Tok.cons dX4_init_410 rfl (pb_Tok.cons dX4_init_412 rfl (pb_Tok.cons dX4_init_414 rfl (pb_Tok.cons dX4_init_415 rfl (pb_Tok.cons dX4_init_416 rfl (pb_Tok.cons dX4_init_418 rfl (pb_Tok.cons dX4_init_420 rfl (pb_Tok.cons dX4_init_421 rfl (pb_Tok.cons dX4_init_422 rfl (pb_Tok.cons dX4_init_424 rfl (pb_Tok.cons dX4_init_426 rfl (pb_Tok.cons dX4_init_427 rfl (pb_Tok.cons dX4_init_428 rfl (pb_Tok.cons dX4_init_430 rfl (pb_Tok.cons dX4_init_432 rfl (pb_Tok.cons dX4_init_433 rfl (pb_Tok.cons dX4_init_434 rfl (pb_Tok.cons dX4_init_436 rfl (pb_Tok.cons dX4_init_438 rfl (pb_Tok.cons dX4_init_439 rfl (pb_Tok.cons dX4_init_440 rfl (pb_Tok.cons dX4_init_442 rfl (pb_Tok.cons dX4_init_444 rfl (pb_Tok.cons dX4_init_445 rfl (pb_Tok.cons dX4_init_446 rfl (pb_Tok.cons dX4_init_448 rfl (pb_Tok.cons dX4_init_450 rfl (pb_Tok.cons dX4_init_451 rfl (pb_Tok.cons dX4_init_452 rfl (pb_Tok.cons dX4_init_454 rfl (pb_Tok.cons dX4_init_456 rfl (pb_Tok.cons dX4_init_457 rfl (pb_Tok.cons dX4_init_458 rfl (pb_Tok.cons dX4_init_460 rfl (pb_Tok.cons dX4_init_462 rfl (pb_Tok.cons dX4_init_463 rfl pb_Tok.nil)))))))))))))))))))))))))))))))))))))))))))))))))))))))))))
def tX4_init_5 : pb_T := [(464, .bipush 65, 466, 0), (466, .bipush 32, 468, 0), (468, .castore, 469, 0), (469, .putfield 38, 472, 0), (472, .aload_n 0, 473, 0), (473, .bipush 12, 475, 0), (475, .newarray .int, 477, 0), (477, .dup, 478, 0), (478, .iconst 0, 479, 0), (479, .iconst 0, 480, 0), (480, .iastore, 481, 0), (481, .dup, 482, 0), (482, .iconst 1, 483, 0), (483, .iconst 4, 484, 0), (484, .iastore, 485, 0), (485, .dup, 486, 0), (486, .iconst 2, 487, 0), (487, .bipush 10, 489, 0), (489, .iastore, 490, 0), (490, .dup, 491, 0), (491, .iconst 3, 492, 0), (492, .bipush 17, 494, 0), (494, .iastore, 495, 0), (495, .dup, 496, 0), (496, .iconst 4, 497, 0), (497, .bipush 23, 499, 0), (499, .iastore, 500, 0), (500, .dup, 501, 0), (501, .iconst 5, 502, 0), (502, .bipush 30, 504, 0), (504, .iastore, 505, 0), (505, .dup, 506, 0), (506, .bipush 6, 508, 0), (508, .bipush 36, 510, 0), (510, .iastore, 511, 0), (511, .dup, 512, 0), (512, .bipush 7, 514, 0), (514, .bipush 41, 516, 0), (516, .iastore, 517, 0), (517, .dup, 518, 0), (518, .bipush 8, 520, 0), (520, .bipush 47, 522, 0), (522, .iastore, 523, 0), (523, .dup, 524, 0), (524, .bipush 9, 526, 0), (526, .bipush 52, 528, 0), (528, .iastore, 529, 0), (529, .dup, 530, 0), (530, .bipush 10, 532, 0), (532, .bipush 58, 534, 0), (534, .iastore, 535, 0), (535, .dup, 536, 0), (536, .bipush 11, 538, 0), (538, .bipush 66, 540, 0), (540, .iastore, 541, 0), (541, .putfield 42, 544, 0), (544, .aload_n 0, 545, 0), (545, .sipush 244, 548, 0), (548, .newarray .int, 550, 0), (550, .putfield 45, 553, 0)]
theorem tX4_init_5_ok : pb_Tok cX4_init tX4_init_5 := pb_Tok.cons dX4_init_464 rfl (pb_Tok.cons dX4_init_466 rfl (pb_Tok.cons dX4_init_468 rfl (pb_Tok.cons dX4_init_469 rfl (pb_Tok.cons dX4_init_472 rfl (pb_Tok.cons dX4_init_473 rfl (pb_Tok.cons dX4_init_475 rfl (pb_Tok.cons dX4_init_477 rfl (pb_Tok.cons dX4_init_478 rfl (pb_Tok.cons dX4_init_479 rfl (pb_Tok.cons dX4_init_480 rfl (pb_Tok.cons dX4_init_481 rfl (pb_Tok.cons dX4_init_482 rfl (pb_Tok.cons dX4_init_483 rfl (pb_Tok.cons dX4_init_484 rfl (pb_Tok.cons dX4_init_485 rfl (pb_Tok.cons dX4_init_486 rfl (pb_Tok.cons dX4_init_487 rfl (pb_Tok.cons dX4_init_489 rfl (pb_Tok.cons dX4_init_490 rfl (pb_Tok.cons dX4_init_491 rfl (pb_Tok.cons dX4_init_492 rfl (pb_Tok.cons dX4_init_494 rfl (pb_Tok.cons dX4_init_495 rfl (pb_Tok.cons dX4_init_496 rfl (pb_Tok.cons dX4_init_497 rfl (pb_Tok.cons dX4_init_499 rfl (pb_Tok.cons dX4_init_500 rfl (pb_Tok.cons dX4_init_501 rfl (pb_Tok.cons dX4_init_502 rfl (pb_Tok.cons dX4_init_504 rfl (pb_Tok.cons dX4_init_505 rfl (pb_Tok.cons dX4_init_506 rfl (pb_Tok.cons dX4_init_508 rfl (pb_Tok.cons dX4_init_510 rfl (pb_Tok.cons dX4_init_511 rfl (pb_Tok.cons dX4_init_512 rfl (pb_Tok.cons dX4_init_514 rfl (pb_Tok.cons dX4_init_516 rfl (pb_Tok.cons dX4_init_517 rfl (pb_Tok.cons dX4_init_518 rfl (pb_Tok.cons dX4_init_520 rfl (pb_Tok.cons dX4_init_522 rfl (pb_Tok.cons dX4_init_523 rfl (pb_Tok.cons dX4_init_524 rfl (pb_Tok.cons dX4_init_526 rfl (pb_Tok.cons dX4_init_528 rfl (pb_Tok.cons dX4_init_529 rfl (pb_Tok.cons dX4_init_530 rfl (pb_Tok.cons dX4_init_532 rfl (pb_Tok.cons dX4_init_534 rfl (pb_Tok.cons dX4_init_535 rfl (pb_Tok.cons dX4_init_536 rfl (pb_Tok.cons dX4_init_538 rfl (pb_Tok.cons dX4_init_540 rfl (pb_Tok.cons dX4_init_541 rfl (pb_Tok.cons dX4_init_544 rfl (pb_Tok.cons dX4_init_545 rfl (pb_Tok.cons dX4_init_548 rfl (pb_Tok.cons dX4_init_550 rfl pb_Tok.nil)))))))))))))))))))))))))))))))))))))))))))))))))))))))))))
def tX4_init_6 : pb_T := [(553, .iconst 0, 554, 0), (554, .istore_n 1, 555, 0), (555, .iload_n 1, 556, 1), (556, .bipush 12, 558, 0), (558, .if_icmp .ge 35, 561, 593), (561, .aload_n 0, 562, 0), (562, .getfield 9, 565, 0), (565, .iconst 5, 566, 0), (566, .iload_n 1, 567, 0), (567, .iadd, 568, 0), (568, .iload_n 1, 569, 0), (569, .bipush 6, 571, 0), (571, .if_icmp .gt 9, 574, 580), (574, .iconst 4, 575, 0), (575, .iload_n 1, 576, 0), (576, .imul, 577, 0), (577, .goto 9, 580, 586), (580, .iconst 4, 581, 0), (581, .bipush 12, 583, 0), (583, .iload_n 1, 584, 0), (584, .isub, 585, 0), (585, .imul, 586, 0), (586, .iastore, 587, 0), (587, .iinc 1 1, 590, 0), (590, .goto (-35), 593, 555), (593, .iconst 0, 594, 0), (594, .istore_n 1, 595, 0), (595, .iload_n 1, 596, 1), (596, .iconst 4, 597, 0), (597, .if_icmp .ge 23, 600, 620), (600, .aload_n 0, 601, 0), (601, .getfield 9, 604, 0), (604, .bipush 17, 606, 0), (606, .iload_n 1, 607, 0), (607, .iadd, 608, 0), (608, .iconst 2, 609, 0), (609, .iload_n 1, 610, 0), (610, .imul, 611, 0), (611, .iconst 2, 612, 0), (612, .iadd, 613, 0), (613, .iastore, 614, 0), (614, .iinc 1 1, 617, 0), (617, .goto (-22), 620, 595), (620, .return_, 621, 0)]
theorem tX4_init_6_ok : pb_Tok cX4_init tX4_init_6 := pb_Tok.cons dX4_init_553 rfl (pb_Tok.cons dX4_init_554 rfl (pb_Tok.cons dX4_init_555 rfl (pb_Tok.cons dX4_init_556 rfl (pb_Tok.cons dX4_init_558 rfl (pb_Tok.cons dX4_init_561 rfl (pb_Tok.cons dX4_init_562 rfl (pb_Tok.cons dX4_init_565 rfl (pb_Tok.cons dX4_init_566 rfl (pb_Tok.cons dX4_init_567 rfl (pb_Tok.cons dX4_init_568 rfl (pb_Tok.cons dX4_init_569 rfl (pb_Tok.cons dX4_init_571 rfl (pb_Tok.cons dX4_init_574 rfl (pb_Tok.cons dX4_init_575 rfl (pb_Tok.cons dX4_init_576 rfl (pb_Tok.cons dX4_init_577 rfl (pb_Tok.cons dX4_init_580 rfl (pb_Tok.cons dX4_init_581 rfl (pb_Tok.cons dX4_init_583 rfl (pb_Tok.cons dX4_init_584 rfl (pb_Tok.cons dX4_init_585 rfl (pb_Tok.cons dX4_init_586 rfl (pb_Tok.cons dX4_init_587 rfl (pb_Tok.cons dX4_init_590 rfl (pb_Tok.cons dX4_init_593 rfl (pb_Tok.cons dX4_init_594 rfl (pb_Tok.cons dX4_init_595 rfl (pb_Tok.cons dX4_init_596 rfl (pb_Tok.cons dX4_init_597 rfl (pb_Tok.cons dX4_init_600 rfl (pb_Tok.cons dX4_init_601 rfl (pb_Tok.cons dX4_init_604 rfl (pb_Tok.cons dX4_init_606 rfl (pb_Tok.cons dX4_init_607 rfl (pb_Tok.cons dX4_init_608 rfl (pb_Tok.cons dX4_init_609 rfl (pb_Tok.cons dX4_init_610 rfl (pb_Tok.cons dX4_init_611 rfl (pb_Tok.cons dX4_init_612 rfl (pb_Tok.cons dX4_init_613 rfl (pb_Tok.cons dX4_init_614 rfl (pb_Tok.cons dX4_init_617 rfl (pb_Tok.cons dX4_init_620 rfl pb_Tok.nil)))))))))))))))))))))))))))))))))))))))))))
def tX4_init : pb_T := tX4_init_0 ++ (tX4_init_1 ++ (tX4_init_2 ++ (tX4_init_3 ++ (tX4_init_4 ++ (tX4_init_5 ++ (tX4_init_6))))))
theorem tX4_init_ok : pb_Tok cX4_init tX4_init := pb_Tok.app tX4_init_0_ok (pb_Tok.app tX4_init_1_ok (pb_Tok.app tX4_init_2_ok (pb_Tok.app tX4_init_3_ok (pb_Tok.app tX4_init_4_ok (pb_Tok.app tX4_init_5_ok (tX4_init_6_ok))))))
def tX4_thrown : pb_T := [(0, .aload_n 0, 1, 0), (1, .getfield 48, 4, 0), (4, .ireturn, 5, 0)]
theorem tX4_thrown_ok : pb_Tok cX4_thrown tX4_thrown := pb_Tok.cons dX4_thrown_0 rfl (pb_Tok.cons dX4_thrown_1 rfl (pb_Tok.cons dX4_thrown_4 rfl pb_Tok.nil))
def tX4_beginHull : pb_T := [(0, .aload_n 0, 1, 0), (1, .invokevirtual 91, 4, 0), (4, .aload_n 0, 5, 0), (5, .aload_n 0, 6, 0), (6, .invokevirtual 94, 9, 0), (9, .invokevirtual 98, 12, 0), (12, .ireturn, 13, 0)]
theorem tX4_beginHull_ok : pb_Tok cX4_beginHull tX4_beginHull := pb_Tok.cons dX4_beginHull_0 rfl (pb_Tok.cons dX4_beginHull_1 rfl (pb_Tok.cons dX4_beginHull_4 rfl (pb_Tok.cons dX4_beginHull_5 rfl (pb_Tok.cons dX4_beginHull_6 rfl (pb_Tok.cons dX4_beginHull_9 rfl (pb_Tok.cons dX4_beginHull_12 rfl pb_Tok.nil))))))
def tX4_starts : pb_T := [(0, .aload_n 0, 1, 0), (1, .iconst 0, 2, 0), (2, .putfield 48, 5, 0), (5, .iconst 0, 6, 0), (6, .istore_n 1, 7, 0), (7, .iload_n 1, 8, 1), (8, .sipush 213, 11, 0), (11, .if_icmp .ge 21, 14, 32), (14, .aload_n 0, 15, 0), (15, .getfield 13, 18, 0), (18, .iload_n 1, 19, 0), (19, .aload_n 0, 20, 0), (20, .getfield 9, 23, 0), (23, .iload_n 1, 24, 0), (24, .iaload, 25, 0), (25, .iastore, 26, 0), (26, .iinc 1 1, 29, 0), (29, .goto (-22), 32, 7), (32, .return_, 33, 0)]
theorem tX4_starts_ok : pb_Tok cX4_starts tX4_starts := pb_Tok.cons dX4_starts_0 rfl (pb_Tok.cons dX4_starts_1 rfl (pb_Tok.cons dX4_starts_2 rfl (pb_Tok.cons dX4_starts_5 rfl (pb_Tok.cons dX4_starts_6 rfl (pb_Tok.cons dX4_starts_7 rfl (pb_Tok.cons dX4_starts_8 rfl (pb_Tok.cons dX4_starts_11 rfl (pb_Tok.cons dX4_starts_14 rfl (pb_Tok.cons dX4_starts_15 rfl (pb_Tok.cons dX4_starts_18 rfl (pb_Tok.cons dX4_starts_19 rfl (pb_Tok.cons dX4_starts_20 rfl (pb_Tok.cons dX4_starts_23 rfl (pb_Tok.cons dX4_starts_24 rfl (pb_Tok.cons dX4_starts_25 rfl (pb_Tok.cons dX4_starts_26 rfl (pb_Tok.cons dX4_starts_29 rfl (pb_Tok.cons dX4_starts_32 rfl pb_Tok.nil))))))))))))))))))
def tX4_hullIt : pb_T := [(0, .aload_n 0, 1, 0), (1, .getfield 9, 4, 0), (4, .iconst 0, 5, 0), (5, .iaload, 6, 0), (6, .bipush 6, 8, 0), (8, .if_icmp .ne 9, 11, 17), (11, .aload_n 0, 12, 0), (12, .iconst 1, 13, 0), (13, .invokevirtual 88, 16, 0), (16, .ireturn, 17, 0), (17, .aload_n 0, 18, 0), (18, .getfield 9, 21, 0), (21, .iconst 0, 22, 0), (22, .dup2, 23, 0), (23, .iaload, 24, 0), (24, .iconst 1, 25, 0), (25, .iadd, 26, 0), (26, .iastore, 27, 0), (27, .aload_n 0, 28, 0), (28, .getfield 9, 31, 0), (31, .iconst 0, 32, 0), (32, .iaload, 33, 0), (33, .iconst 1, 34, 0), (34, .isub, 35, 0), (35, .ireturn, 36, 0)]
theorem tX4_hullIt_ok : pb_Tok cX4_hullIt tX4_hullIt := pb_Tok.cons dX4_hullIt_0 rfl (pb_Tok.cons dX4_hullIt_1 rfl (pb_Tok.cons dX4_hullIt_4 rfl (pb_Tok.cons dX4_hullIt_5 rfl (pb_Tok.cons dX4_hullIt_6 rfl (pb_Tok.cons dX4_hullIt_8 rfl (pb_Tok.cons dX4_hullIt_11 rfl (pb_Tok.cons dX4_hullIt_12 rfl (pb_Tok.cons dX4_hullIt_13 rfl (pb_Tok.cons dX4_hullIt_16 rfl (pb_Tok.cons dX4_hullIt_17 rfl (pb_Tok.cons dX4_hullIt_18 rfl (pb_Tok.cons dX4_hullIt_21 rfl (pb_Tok.cons dX4_hullIt_22 rfl (pb_Tok.cons dX4_hullIt_23 rfl (pb_Tok.cons dX4_hullIt_24 rfl (pb_Tok.cons dX4_hullIt_25 rfl (pb_Tok.cons dX4_hullIt_26 rfl (pb_Tok.cons dX4_hullIt_27 rfl (pb_Tok.cons dX4_hullIt_28 rfl (pb_Tok.cons dX4_hullIt_31 rfl (pb_Tok.cons dX4_hullIt_32 rfl (pb_Tok.cons dX4_hullIt_33 rfl (pb_Tok.cons dX4_hullIt_34 rfl (pb_Tok.cons dX4_hullIt_35 rfl pb_Tok.nil))))))))))))))))))))))))
def tX4_throwing : pb_T := [(0, .aload_n 0, 1, 0), (1, .iload_n 1, 2, 0), (2, .putfield 48, 5, 0), (5, .iconst (-1), 6, 0), (6, .ireturn, 7, 0)]
theorem tX4_throwing_ok : pb_Tok cX4_throwing tX4_throwing := pb_Tok.cons dX4_throwing_0 rfl (pb_Tok.cons dX4_throwing_1 rfl (pb_Tok.cons dX4_throwing_2 rfl (pb_Tok.cons dX4_throwing_5 rfl (pb_Tok.cons dX4_throwing_6 rfl pb_Tok.nil))))
def tX4_changed : pb_T := [(0, .aload_n 0, 1, 0), (1, .getfield 48, 4, 0), (4, .ifCond .le 5, 7, 9), (7, .iload_n 1, 8, 0), (8, .ireturn, 9, 0), (9, .aload_n 0, 10, 0), (10, .getfield 51, 13, 0), (13, .bipush 8, 15, 0), (15, .if_icmp .ne 44, 18, 59), (18, .iconst 0, 19, 0), (19, .istore_n 2, 20, 0), (20, .iload_n 2, 21, 1), (21, .sipush 1491, 24, 0), (24, .if_icmp .ge 25, 27, 49), (27, .aload_n 0, 28, 0), (28, .getfield 19, 31, 0), (31, .iload_n 2, 32, 0), (32, .aload_n 0, 33, 0), (33, .getfield 19, 36, 0), (36, .iload_n 2, 37, 0), (37, .sipush 213, 40, 0), (40, .iadd, 41, 0), (41, .iaload, 42, 0), (42, .iastore, 43, 0), (43, .iinc 2 1, 46, 0), (46, .goto (-26), 49, 20), (49, .aload_n 0, 50, 0), (50, .dup, 51, 0), (51, .getfield 51, 54, 0), (54, .iconst 1, 55, 0), (55, .isub, 56, 0), (56, .putfield 51, 59, 0), (59, .iconst 0, 60, 0), (60, .istore_n 2, 61, 0), (61, .iload_n 2, 62, 1), (62, .sipush 213, 65, 0), (65, .if_icmp .ge 30, 68, 95), (68, .aload_n 0, 69, 0), (69, .getfield 19, 72, 0), (72, .sipush 213, 75, 0), (75, .aload_n 0, 76, 0), (76, .getfield 51, 79, 0), (79, .imul, 80, 0), (80, .iload_n 2, 81, 0), (81, .iadd, 82, 0), (82, .aload_n 0, 83, 0), (83, .getfield 13, 86, 0), (86, .iload_n 2, 87, 0), (87, .iaload, 88, 0), (88, .iastore, 89, 0), (89, .iinc 2 1, 92, 0), (92, .goto (-31), 95, 61), (95, .aload_n 0, 96, 0), (96, .dup, 97, 0), (97, .getfield 51, 100, 0), (100, .iconst 1, 101, 0), (101, .iadd, 102, 0), (102, .putfield 51, 105, 0), (105, .iload_n 1, 106, 0), (106, .ireturn, 107, 0)]
theorem tX4_changed_ok : pb_Tok cX4_changed tX4_changed := pb_Tok.cons dX4_changed_0 rfl (pb_Tok.cons dX4_changed_1 rfl (pb_Tok.cons dX4_changed_4 rfl (pb_Tok.cons dX4_changed_7 rfl (pb_Tok.cons dX4_changed_8 rfl (pb_Tok.cons dX4_changed_9 rfl (pb_Tok.cons dX4_changed_10 rfl (pb_Tok.cons dX4_changed_13 rfl (pb_Tok.cons dX4_changed_15 rfl (pb_Tok.cons dX4_changed_18 rfl (pb_Tok.cons dX4_changed_19 rfl (pb_Tok.cons dX4_changed_20 rfl (pb_Tok.cons dX4_changed_21 rfl (pb_Tok.cons dX4_changed_24 rfl (pb_Tok.cons dX4_changed_27 rfl (pb_Tok.cons dX4_changed_28 rfl (pb_Tok.cons dX4_changed_31 rfl (pb_Tok.cons dX4_changed_32 rfl (pb_Tok.cons dX4_changed_33 rfl (pb_Tok.cons dX4_changed_36 rfl (pb_Tok.cons dX4_changed_37 rfl (pb_Tok.cons dX4_changed_40 rfl (pb_Tok.cons dX4_changed_41 rfl (pb_Tok.cons dX4_changed_42 rfl (pb_Tok.cons dX4_changed_43 rfl (pb_Tok.cons dX4_changed_46 rfl (pb_Tok.cons dX4_changed_49 rfl (pb_Tok.cons dX4_changed_50 rfl (pb_Tok.cons dX4_changed_51 rfl (pb_Tok.cons dX4_changed_54 rfl (pb_Tok.cons dX4_changed_55 rfl (pb_Tok.cons dX4_changed_56 rfl (pb_Tok.cons dX4_changed_59 rfl (pb_Tok.cons dX4_changed_60 rfl (pb_Tok.cons dX4_changed_61 rfl (pb_Tok.cons dX4_changed_62 rfl (pb_Tok.cons dX4_changed_65 rfl (pb_Tok.cons dX4_changed_68 rfl (pb_Tok.cons dX4_changed_69 rfl (pb_Tok.cons dX4_changed_72 rfl (pb_Tok.cons dX4_changed_75 rfl (pb_Tok.cons dX4_changed_76 rfl (pb_Tok.cons dX4_changed_79 rfl (pb_Tok.cons dX4_changed_80 rfl (pb_Tok.cons dX4_changed_81 rfl (pb_Tok.cons dX4_changed_82 rfl (pb_Tok.cons dX4_changed_83 rfl (pb_Tok.cons dX4_changed_86 rfl (pb_Tok.cons dX4_changed_87 rfl (pb_Tok.cons dX4_changed_88 rfl (pb_Tok.cons dX4_changed_89 rfl (pb_Tok.cons dX4_changed_92 rfl (pb_Tok.cons dX4_changed_95 rfl (pb_Tok.cons dX4_changed_96 rfl (pb_Tok.cons dX4_changed_97 rfl (pb_Tok.cons dX4_changed_100 rfl (pb_Tok.cons dX4_changed_101 rfl (pb_Tok.cons dX4_changed_102 rfl (pb_Tok.cons dX4_changed_105 rfl (pb_Tok.cons dX4_changed_106 rfl pb_Tok.nil)))))))))))))))))))))))))))))))))))))))))))))))))))))))))))
def tX4_addFrame : pb_T := [(0, .aload_n 0, 1, 0), (1, .invokevirtual 91, 4, 0), (4, .aload_n 0, 5, 0), (5, .aload_n 0, 6, 0), (6, .iload_n 1, 7, 0), (7, .iload_n 2, 8, 0), (8, .iload_n 3, 9, 0), (9, .invokevirtual 103, 12, 0), (12, .invokevirtual 98, 15, 0), (15, .ireturn, 16, 0)]
theorem tX4_addFrame_ok : pb_Tok cX4_addFrame tX4_addFrame := pb_Tok.cons dX4_addFrame_0 rfl (pb_Tok.cons dX4_addFrame_1 rfl (pb_Tok.cons dX4_addFrame_4 rfl (pb_Tok.cons dX4_addFrame_5 rfl (pb_Tok.cons dX4_addFrame_6 rfl (pb_Tok.cons dX4_addFrame_7 rfl (pb_Tok.cons dX4_addFrame_8 rfl (pb_Tok.cons dX4_addFrame_9 rfl (pb_Tok.cons dX4_addFrame_12 rfl (pb_Tok.cons dX4_addFrame_15 rfl pb_Tok.nil)))))))))
def tX4_frameIt_0 : pb_T := [(0, .aload_n 0, 1, 0), (1, .iload_n 1, 2, 0), (2, .invokevirtual 84, 5, 0), (5, .ifCond .ne 9, 8, 14), (8, .aload_n 0, 9, 0), (9, .iconst 1, 10, 0), (10, .invokevirtual 88, 13, 0), (13, .ireturn, 14, 0), (14, .iload_n 2, 15, 0), (15, .i2l, 16, 0), (16, .lconst 1, 17, 0), (17, .ldc2_w 101, 20, 0), (20, .invokestatic 54, 23, 0), (23, .ifCond .eq 15, 26, 38), (26, .iload_n 3, 27, 0), (27, .i2l, 28, 0), (28, .lconst 1, 29, 0), (29, .ldc2_w 101, 32, 0), (32, .invokestatic 54, 35, 0), (35, .ifCond .ne 9, 38, 44), (38, .aload_n 0, 39, 0), (39, .iconst 2, 40, 0), (40, .invokevirtual 88, 43, 0), (43, .ireturn, 44, 0), (44, .aload_n 0, 45, 0), (45, .iload_n 1, 46, 0), (46, .invokevirtual 81, 49, 0), (49, .ifCond .ne 13, 52, 62), (52, .aload_n 0, 53, 0), (53, .iload_n 1, 54, 0), (54, .invokevirtual 62, 57, 0), (57, .bipush 8, 59, 0), (59, .if_icmp .ne 9, 62, 68), (62, .aload_n 0, 63, 0), (63, .iconst 3, 64, 0), (64, .invokevirtual 88, 67, 0), (67, .ireturn, 68, 0), (68, .aload_n 0, 69, 0), (69, .iload_n 1, 70, 0), (70, .invokevirtual 62, 73, 0), (73, .istore 4, 75, 0), (75, .aload_n 0, 76, 0), (76, .getfield 9, 79, 0), (79, .iload_n 1, 80, 0), (80, .invokestatic 58, 83, 0), (83, .iconst 4, 84, 0), (84, .iadd, 85, 0), (85, .iconst 2, 86, 0), (86, .iload 4, 88, 0), (88, .imul, 89, 0), (89, .iadd, 90, 0), (90, .iload_n 2, 91, 0), (91, .iastore, 92, 0), (92, .aload_n 0, 93, 0), (93, .getfield 9, 96, 0), (96, .iload_n 1, 97, 0), (97, .invokestatic 58, 100, 0), (100, .iconst 4, 101, 0), (101, .iadd, 102, 0), (102, .iconst 2, 103, 0)]
theorem tX4_frameIt_0_ok : pb_Tok cX4_frameIt tX4_frameIt_0 := pb_Tok.cons dX4_frameIt_0 rfl (pb_Tok.cons dX4_frameIt_1 rfl (pb_Tok.cons dX4_frameIt_2 rfl (pb_Tok.cons dX4_frameIt_5 rfl (pb_Tok.cons dX4_frameIt_8 rfl (pb_Tok.cons dX4_frameIt_9 rfl (pb_Tok.cons dX4_frameIt_10 rfl (pb_Tok.cons dX4_frameIt_13 rfl (pb_Tok.cons dX4_frameIt_14 rfl (pb_Tok.cons dX4_frameIt_15 rfl (pb_Tok.cons dX4_frameIt_16 rfl (pb_Tok.cons dX4_frameIt_17 rfl (pb_Tok.cons dX4_frameIt_20 rfl (pb_Tok.cons dX4_frameIt_23 rfl (pb_Tok.cons dX4_frameIt_26 rfl (pb_Tok.cons dX4_frameIt_27 rfl (pb_Tok.cons dX4_frameIt_28 rfl (pb_Tok.cons dX4_frameIt_29 rfl (pb_Tok.cons dX4_frameIt_32 rfl (pb_Tok.cons dX4_frameIt_35 rfl (pb_Tok.cons dX4_frameIt_38 rfl (pb_Tok.cons dX4_frameIt_39 rfl (pb_Tok.cons dX4_frameIt_40 rfl (pb_Tok.cons dX4_frameIt_43 rfl (pb_Tok.cons dX4_frameIt_44 rfl (pb_Tok.cons dX4_frameIt_45 rfl (pb_Tok.cons dX4_frameIt_46 rfl (pb_Tok.cons dX4_frameIt_49 rfl (pb_Tok.cons dX4_frameIt_52 rfl (pb_Tok.cons dX4_frameIt_53 rfl (pb_Tok.cons dX4_frameIt_54 rfl (pb_Tok.cons dX4_frameIt_57 rfl (pb_Tok.cons dX4_frameIt_59 rfl (pb_Tok.cons dX4_frameIt_62 rfl (pb_Tok.cons dX4_frameIt_63 rfl (pb_Tok.cons dX4_frameIt_64 rfl (pb_Tok.cons dX4_frameIt_67 rfl (pb_Tok.cons dX4_frameIt_68 rfl (pb_Tok.cons dX4_frameIt_69 rfl (pb_Tok.cons dX4_frameIt_70 rfl (pb_Tok.cons dX4_frameIt_73 rfl (pb_Tok.cons dX4_frameIt_75 rfl (pb_Tok.cons dX4_frameIt_76 rfl (pb_Tok.cons dX4_frameIt_79 rfl (pb_Tok.cons dX4_frameIt_80 rfl (pb_Tok.cons dX4_frameIt_83 rfl (pb_Tok.cons dX4_frameIt_84 rfl (pb_Tok.cons dX4_frameIt_85 rfl (pb_Tok.cons dX4_frameIt_86 rfl (pb_Tok.cons dX4_frameIt_88 rfl (pb_Tok.cons dX4_frameIt_89 rfl (pb_Tok.cons dX4_frameIt_90 rfl (pb_Tok.cons dX4_frameIt_91 rfl (pb_Tok.cons dX4_frameIt_92 rfl (pb_Tok.cons dX4_frameIt_93 rfl (pb_Tok.cons dX4_frameIt_96 rfl (pb_Tok.cons dX4_frameIt_97 rfl (pb_Tok.cons dX4_frameIt_100 rfl (pb_Tok.cons dX4_frameIt_101 rfl (pb_Tok.cons dX4_frameIt_102 rfl pb_Tok.nil)))))))))))))))))))))))))))))))))))))))))))))))))))))))))))
def tX4_frameIt_1 : pb_T := [(103, .iload 4, 105, 0), (105, .imul, 106, 0), (106, .iadd, 107, 0), (107, .iconst 1, 108, 0), (108, .iadd, 109, 0), (109, .iload_n 3, 110, 0), (110, .iastore, 111, 0), (111, .aload_n 0, 112, 0), (112, .getfield 9, 115, 0), (115, .iload_n 1, 116, 0), (116, .invokestatic 58, 119, 0), (119, .iconst 1, 120, 0), (120, .iadd, 121, 0), (121, .dup2, 122, 0), (122, .iaload, 123, 0), (123, .iconst 1, 124, 0), (124, .iadd, 125, 0), (125, .iastore, 126, 0), (126, .iload 4, 128, 0), (128, .ifCond .le 22, 131, 150), (131, .aload_n 0, 132, 0), (132, .getfield 9, 135, 0), (135, .iload_n 1, 136, 0), (136, .invokestatic 58, 139, 0), (139, .bipush 20, 141, 0), (141, .iadd, 142, 0), (142, .iload 4, 144, 0), (144, .iadd, 145, 0), (145, .iconst 1, 146, 0), (146, .isub, 147, 0), (147, .bipush 9, 149, 0), (149, .iastore, 150, 0), (150, .iload 4, 152, 0), (152, .iconst 1, 153, 0), (153, .iadd, 154, 0), (154, .ireturn, 155, 0)]
theorem tX4_frameIt_1_ok : pb_Tok cX4_frameIt tX4_frameIt_1 := pb_Tok.cons dX4_frameIt_103 rfl (pb_Tok.cons dX4_frameIt_105 rfl (pb_Tok.cons dX4_frameIt_106 rfl (pb_Tok.cons dX4_frameIt_107 rfl (pb_Tok.cons dX4_frameIt_108 rfl (pb_Tok.cons dX4_frameIt_109 rfl (pb_Tok.cons dX4_frameIt_110 rfl (pb_Tok.cons dX4_frameIt_111 rfl (pb_Tok.cons dX4_frameIt_112 rfl (pb_Tok.cons dX4_frameIt_115 rfl (pb_Tok.cons dX4_frameIt_116 rfl (pb_Tok.cons dX4_frameIt_119 rfl (pb_Tok.cons dX4_frameIt_120 rfl (pb_Tok.cons dX4_frameIt_121 rfl (pb_Tok.cons dX4_frameIt_122 rfl (pb_Tok.cons dX4_frameIt_123 rfl (pb_Tok.cons dX4_frameIt_124 rfl (pb_Tok.cons dX4_frameIt_125 rfl (pb_Tok.cons dX4_frameIt_126 rfl (pb_Tok.cons dX4_frameIt_128 rfl (pb_Tok.cons dX4_frameIt_131 rfl (pb_Tok.cons dX4_frameIt_132 rfl (pb_Tok.cons dX4_frameIt_135 rfl (pb_Tok.cons dX4_frameIt_136 rfl (pb_Tok.cons dX4_frameIt_139 rfl (pb_Tok.cons dX4_frameIt_141 rfl (pb_Tok.cons dX4_frameIt_142 rfl (pb_Tok.cons dX4_frameIt_144 rfl (pb_Tok.cons dX4_frameIt_145 rfl (pb_Tok.cons dX4_frameIt_146 rfl (pb_Tok.cons dX4_frameIt_147 rfl (pb_Tok.cons dX4_frameIt_149 rfl (pb_Tok.cons dX4_frameIt_150 rfl (pb_Tok.cons dX4_frameIt_152 rfl (pb_Tok.cons dX4_frameIt_153 rfl (pb_Tok.cons dX4_frameIt_154 rfl pb_Tok.nil)))))))))))))))))))))))))))))))))))
def tX4_frameIt : pb_T := tX4_frameIt_0 ++ (tX4_frameIt_1)
theorem tX4_frameIt_ok : pb_Tok cX4_frameIt tX4_frameIt := pb_Tok.app tX4_frameIt_0_ok (tX4_frameIt_1_ok)
def tX4_isHull : pb_T := [(0, .iload_n 1, 1, 0), (1, .i2l, 2, 0), (2, .lconst 0, 3, 0), (3, .aload_n 0, 4, 0), (4, .getfield 9, 7, 0), (7, .iconst 0, 8, 0), (8, .iaload, 9, 0), (9, .iconst 1, 10, 0), (10, .isub, 11, 0), (11, .i2l, 12, 0), (12, .invokestatic 54, 15, 0), (15, .ireturn, 16, 0)]
theorem tX4_isHull_ok : pb_Tok cX4_isHull tX4_isHull := pb_Tok.cons dX4_isHull_0 rfl (pb_Tok.cons dX4_isHull_1 rfl (pb_Tok.cons dX4_isHull_2 rfl (pb_Tok.cons dX4_isHull_3 rfl (pb_Tok.cons dX4_isHull_4 rfl (pb_Tok.cons dX4_isHull_7 rfl (pb_Tok.cons dX4_isHull_8 rfl (pb_Tok.cons dX4_isHull_9 rfl (pb_Tok.cons dX4_isHull_10 rfl (pb_Tok.cons dX4_isHull_11 rfl (pb_Tok.cons dX4_isHull_12 rfl (pb_Tok.cons dX4_isHull_15 rfl pb_Tok.nil)))))))))))
def tX4_in : pb_T := [(0, .lload_n 0, 1, 0), (1, .lload_n 2, 2, 0), (2, .lcmp, 3, 0), (3, .ifCond .lt 14, 6, 17), (6, .lload_n 0, 7, 0), (7, .lload 4, 9, 0), (9, .lcmp, 10, 0), (10, .ifCond .gt 7, 13, 17), (13, .iconst 1, 14, 0), (14, .goto 4, 17, 18), (17, .iconst 0, 18, 0), (18, .ireturn, 19, 0)]
theorem tX4_in_ok : pb_Tok cX4_in tX4_in := pb_Tok.cons dX4_in_0 rfl (pb_Tok.cons dX4_in_1 rfl (pb_Tok.cons dX4_in_2 rfl (pb_Tok.cons dX4_in_3 rfl (pb_Tok.cons dX4_in_6 rfl (pb_Tok.cons dX4_in_7 rfl (pb_Tok.cons dX4_in_9 rfl (pb_Tok.cons dX4_in_10 rfl (pb_Tok.cons dX4_in_13 rfl (pb_Tok.cons dX4_in_14 rfl (pb_Tok.cons dX4_in_17 rfl (pb_Tok.cons dX4_in_18 rfl pb_Tok.nil)))))))))))
def tX4_state : pb_T := [(0, .aload_n 0, 1, 0), (1, .getfield 9, 4, 0), (4, .iload_n 1, 5, 0), (5, .invokestatic 58, 8, 0), (8, .iaload, 9, 0), (9, .ireturn, 10, 0)]
theorem tX4_state_ok : pb_Tok cX4_state tX4_state := pb_Tok.cons dX4_state_0 rfl (pb_Tok.cons dX4_state_1 rfl (pb_Tok.cons dX4_state_4 rfl (pb_Tok.cons dX4_state_5 rfl (pb_Tok.cons dX4_state_8 rfl (pb_Tok.cons dX4_state_9 rfl pb_Tok.nil)))))
def tX4_hullAt : pb_T := [(0, .bipush 21, 2, 0), (2, .bipush 28, 4, 0), (4, .iload_n 0, 5, 0), (5, .imul, 6, 0), (6, .iadd, 7, 0), (7, .ireturn, 8, 0)]
theorem tX4_hullAt_ok : pb_Tok cX4_hullAt tX4_hullAt := pb_Tok.cons dX4_hullAt_0 rfl (pb_Tok.cons dX4_hullAt_2 rfl (pb_Tok.cons dX4_hullAt_4 rfl (pb_Tok.cons dX4_hullAt_5 rfl (pb_Tok.cons dX4_hullAt_6 rfl (pb_Tok.cons dX4_hullAt_7 rfl pb_Tok.nil)))))
def tX4_frames : pb_T := [(0, .aload_n 0, 1, 0), (1, .getfield 9, 4, 0), (4, .iload_n 1, 5, 0), (5, .invokestatic 58, 8, 0), (8, .iconst 1, 9, 0), (9, .iadd, 10, 0), (10, .iaload, 11, 0), (11, .ireturn, 12, 0)]
theorem tX4_frames_ok : pb_Tok cX4_frames tX4_frames := pb_Tok.cons dX4_frames_0 rfl (pb_Tok.cons dX4_frames_1 rfl (pb_Tok.cons dX4_frames_4 rfl (pb_Tok.cons dX4_frames_5 rfl (pb_Tok.cons dX4_frames_8 rfl (pb_Tok.cons dX4_frames_9 rfl (pb_Tok.cons dX4_frames_10 rfl (pb_Tok.cons dX4_frames_11 rfl pb_Tok.nil)))))))
def tX4_mirror : pb_T := [(0, .aload_n 0, 1, 0), (1, .invokevirtual 91, 4, 0), (4, .aload_n 0, 5, 0), (5, .aload_n 0, 6, 0), (6, .iload_n 1, 7, 0), (7, .invokevirtual 106, 10, 0), (10, .invokevirtual 98, 13, 0), (13, .ireturn, 14, 0)]
theorem tX4_mirror_ok : pb_Tok cX4_mirror tX4_mirror := pb_Tok.cons dX4_mirror_0 rfl (pb_Tok.cons dX4_mirror_1 rfl (pb_Tok.cons dX4_mirror_4 rfl (pb_Tok.cons dX4_mirror_5 rfl (pb_Tok.cons dX4_mirror_6 rfl (pb_Tok.cons dX4_mirror_7 rfl (pb_Tok.cons dX4_mirror_10 rfl (pb_Tok.cons dX4_mirror_13 rfl pb_Tok.nil)))))))
def tX4_mirrorIt_0 : pb_T := [(0, .aload_n 0, 1, 0), (1, .iload_n 1, 2, 0), (2, .invokevirtual 84, 5, 0), (5, .ifCond .ne 9, 8, 14), (8, .aload_n 0, 9, 0), (9, .iconst 1, 10, 0), (10, .invokevirtual 88, 13, 0), (13, .ireturn, 14, 0), (14, .aload_n 0, 15, 0), (15, .iload_n 1, 16, 0), (16, .invokevirtual 81, 19, 0), (19, .ifCond .eq 9, 22, 28), (22, .aload_n 0, 23, 0), (23, .iconst 2, 24, 0), (24, .invokevirtual 88, 27, 0), (27, .ireturn, 28, 0), (28, .iconst 0, 29, 0), (29, .istore_n 2, 30, 0), (30, .iconst 0, 31, 0), (31, .istore_n 3, 32, 0), (32, .iload_n 3, 33, 1), (33, .aload_n 0, 34, 0), (34, .iload_n 1, 35, 0), (35, .invokevirtual 62, 38, 0), (38, .if_icmp .ge 78, 41, 116), (41, .aload_n 0, 42, 0), (42, .iload_n 1, 43, 0), (43, .iload_n 3, 44, 0), (44, .iconst 0, 45, 0), (45, .invokevirtual 71, 48, 0), (48, .istore 4, 50, 0), (50, .aload_n 0, 51, 0), (51, .iload_n 1, 52, 0), (52, .iload_n 3, 53, 0), (53, .iconst 1, 54, 0), (54, .invokevirtual 71, 57, 0), (57, .istore 5, 59, 0), (59, .aload_n 0, 60, 0), (60, .getfield 9, 63, 0), (63, .iload_n 1, 64, 0), (64, .invokestatic 58, 67, 0), (67, .iconst 4, 68, 0), (68, .iadd, 69, 0), (69, .iconst 2, 70, 0), (70, .iload_n 3, 71, 0), (71, .imul, 72, 0), (72, .iadd, 73, 0), (73, .iload 5, 75, 0), (75, .iastore, 76, 0), (76, .aload_n 0, 77, 0), (77, .getfield 9, 80, 0), (80, .iload_n 1, 81, 0), (81, .invokestatic 58, 84, 0), (84, .iconst 4, 85, 0), (85, .iadd, 86, 0), (86, .iconst 2, 87, 0), (87, .iload_n 3, 88, 0), (88, .imul, 89, 0), (89, .iadd, 90, 0), (90, .iconst 1, 91, 0)]
theorem tX4_mirrorIt_0_ok : pb_Tok cX4_mirrorIt tX4_mirrorIt_0 := pb_Tok.cons dX4_mirrorIt_0 rfl (pb_Tok.cons dX4_mirrorIt_1 rfl (pb_Tok.cons dX4_mirrorIt_2 rfl (pb_Tok.cons dX4_mirrorIt_5 rfl (pb_Tok.cons dX4_mirrorIt_8 rfl (pb_Tok.cons dX4_mirrorIt_9 rfl (pb_Tok.cons dX4_mirrorIt_10 rfl (pb_Tok.cons dX4_mirrorIt_13 rfl (pb_Tok.cons dX4_mirrorIt_14 rfl (pb_Tok.cons dX4_mirrorIt_15 rfl (pb_Tok.cons dX4_mirrorIt_16 rfl (pb_Tok.cons dX4_mirrorIt_19 rfl (pb_Tok.cons dX4_mirrorIt_22 rfl (pb_Tok.cons dX4_mirrorIt_23 rfl (pb_Tok.cons dX4_mirrorIt_24 rfl (pb_Tok.cons dX4_mirrorIt_27 rfl (pb_Tok.cons dX4_mirrorIt_28 rfl (pb_Tok.cons dX4_mirrorIt_29 rfl (pb_Tok.cons dX4_mirrorIt_30 rfl (pb_Tok.cons dX4_mirrorIt_31 rfl (pb_Tok.cons dX4_mirrorIt_32 rfl (pb_Tok.cons dX4_mirrorIt_33 rfl (pb_Tok.cons dX4_mirrorIt_34 rfl (pb_Tok.cons dX4_mirrorIt_35 rfl (pb_Tok.cons dX4_mirrorIt_38 rfl (pb_Tok.cons dX4_mirrorIt_41 rfl (pb_Tok.cons dX4_mirrorIt_42 rfl (pb_Tok.cons dX4_mirrorIt_43 rfl (pb_Tok.cons dX4_mirrorIt_44 rfl (pb_Tok.cons dX4_mirrorIt_45 rfl (pb_Tok.cons dX4_mirrorIt_48 rfl (pb_Tok.cons dX4_mirrorIt_50 rfl (pb_Tok.cons dX4_mirrorIt_51 rfl (pb_Tok.cons dX4_mirrorIt_52 rfl (pb_Tok.cons dX4_mirrorIt_53 rfl (pb_Tok.cons dX4_mirrorIt_54 rfl (pb_Tok.cons dX4_mirrorIt_57 rfl (pb_Tok.cons dX4_mirrorIt_59 rfl (pb_Tok.cons dX4_mirrorIt_60 rfl (pb_Tok.cons dX4_mirrorIt_63 rfl (pb_Tok.cons dX4_mirrorIt_64 rfl (pb_Tok.cons dX4_mirrorIt_67 rfl (pb_Tok.cons dX4_mirrorIt_68 rfl (pb_Tok.cons dX4_mirrorIt_69 rfl (pb_Tok.cons dX4_mirrorIt_70 rfl (pb_Tok.cons dX4_mirrorIt_71 rfl (pb_Tok.cons dX4_mirrorIt_72 rfl (pb_Tok.cons dX4_mirrorIt_73 rfl (pb_Tok.cons dX4_mirrorIt_75 rfl (pb_Tok.cons dX4_mirrorIt_76 rfl (pb_Tok.cons dX4_mirrorIt_77 rfl (pb_Tok.cons dX4_mirrorIt_80 rfl (pb_Tok.cons dX4_mirrorIt_81 rfl (pb_Tok.cons dX4_mirrorIt_84 rfl (pb_Tok.cons dX4_mirrorIt_85 rfl (pb_Tok.cons dX4_mirrorIt_86 rfl (pb_Tok.cons dX4_mirrorIt_87 rfl (pb_Tok.cons dX4_mirrorIt_88 rfl (pb_Tok.cons dX4_mirrorIt_89 rfl (pb_Tok.cons dX4_mirrorIt_90 rfl pb_Tok.nil)))))))))))))))))))))))))))))))))))))))))))))))))))))))))))
def tX4_mirrorIt_1 : pb_T := [(91, .iadd, 92, 0), (92, .iload 4, 94, 0), (94, .iastore, 95, 0), (95, .iload_n 2, 96, 0), (96, .iload 4, 98, 0), (98, .iload 5, 100, 0), (100, .if_icmp .ne 7, 103, 107), (103, .iconst 0, 104, 0), (104, .goto 4, 107, 108), (107, .iconst 1, 108, 0), (108, .iadd, 109, 0), (109, .istore_n 2, 110, 0), (110, .iinc 3 1, 113, 0), (113, .goto (-81), 116, 32), (116, .iload_n 2, 117, 0), (117, .ireturn, 118, 0)]
theorem tX4_mirrorIt_1_ok : pb_Tok cX4_mirrorIt tX4_mirrorIt_1 := pb_Tok.cons dX4_mirrorIt_91 rfl (pb_Tok.cons dX4_mirrorIt_92 rfl (pb_Tok.cons dX4_mirrorIt_94 rfl (pb_Tok.cons dX4_mirrorIt_95 rfl (pb_Tok.cons dX4_mirrorIt_96 rfl (pb_Tok.cons dX4_mirrorIt_98 rfl (pb_Tok.cons dX4_mirrorIt_100 rfl (pb_Tok.cons dX4_mirrorIt_103 rfl (pb_Tok.cons dX4_mirrorIt_104 rfl (pb_Tok.cons dX4_mirrorIt_107 rfl (pb_Tok.cons dX4_mirrorIt_108 rfl (pb_Tok.cons dX4_mirrorIt_109 rfl (pb_Tok.cons dX4_mirrorIt_110 rfl (pb_Tok.cons dX4_mirrorIt_113 rfl (pb_Tok.cons dX4_mirrorIt_116 rfl (pb_Tok.cons dX4_mirrorIt_117 rfl pb_Tok.nil)))))))))))))))
def tX4_mirrorIt : pb_T := tX4_mirrorIt_0 ++ (tX4_mirrorIt_1)
theorem tX4_mirrorIt_ok : pb_Tok cX4_mirrorIt tX4_mirrorIt := pb_Tok.app tX4_mirrorIt_0_ok (tX4_mirrorIt_1_ok)
def tX4_width : pb_T := [(0, .aload_n 0, 1, 0), (1, .getfield 9, 4, 0), (4, .iload_n 1, 5, 0), (5, .invokestatic 58, 8, 0), (8, .iconst 4, 9, 0), (9, .iadd, 10, 0), (10, .iconst 2, 11, 0), (11, .iload_n 2, 12, 0), (12, .imul, 13, 0), (13, .iadd, 14, 0), (14, .iload_n 3, 15, 0), (15, .iadd, 16, 0), (16, .iaload, 17, 0), (17, .ireturn, 18, 0)]
theorem tX4_width_ok : pb_Tok cX4_width tX4_width := pb_Tok.cons dX4_width_0 rfl (pb_Tok.cons dX4_width_1 rfl (pb_Tok.cons dX4_width_4 rfl (pb_Tok.cons dX4_width_5 rfl (pb_Tok.cons dX4_width_8 rfl (pb_Tok.cons dX4_width_9 rfl (pb_Tok.cons dX4_width_10 rfl (pb_Tok.cons dX4_width_11 rfl (pb_Tok.cons dX4_width_12 rfl (pb_Tok.cons dX4_width_13 rfl (pb_Tok.cons dX4_width_14 rfl (pb_Tok.cons dX4_width_15 rfl (pb_Tok.cons dX4_width_16 rfl (pb_Tok.cons dX4_width_17 rfl pb_Tok.nil)))))))))))))
def tX4_setCargo : pb_T := [(0, .aload_n 0, 1, 0), (1, .invokevirtual 91, 4, 0), (4, .aload_n 0, 5, 0), (5, .aload_n 0, 6, 0), (6, .iload_n 1, 7, 0), (7, .iload_n 2, 8, 0), (8, .invokevirtual 114, 11, 0), (11, .invokevirtual 98, 14, 0), (14, .ireturn, 15, 0)]
theorem tX4_setCargo_ok : pb_Tok cX4_setCargo tX4_setCargo := pb_Tok.cons dX4_setCargo_0 rfl (pb_Tok.cons dX4_setCargo_1 rfl (pb_Tok.cons dX4_setCargo_4 rfl (pb_Tok.cons dX4_setCargo_5 rfl (pb_Tok.cons dX4_setCargo_6 rfl (pb_Tok.cons dX4_setCargo_7 rfl (pb_Tok.cons dX4_setCargo_8 rfl (pb_Tok.cons dX4_setCargo_11 rfl (pb_Tok.cons dX4_setCargo_14 rfl pb_Tok.nil))))))))
def tX4_cargoIt : pb_T := [(0, .aload_n 0, 1, 0), (1, .iload_n 1, 2, 0), (2, .invokevirtual 84, 5, 0), (5, .ifCond .ne 9, 8, 14), (8, .aload_n 0, 9, 0), (9, .iconst 1, 10, 0), (10, .invokevirtual 88, 13, 0), (13, .ireturn, 14, 0), (14, .iload_n 2, 15, 0), (15, .i2l, 16, 0), (16, .lconst 0, 17, 0), (17, .ldc2_w 109, 20, 0), (20, .invokestatic 54, 23, 0), (23, .ifCond .ne 9, 26, 32), (26, .aload_n 0, 27, 0), (27, .iconst 2, 28, 0), (28, .invokevirtual 88, 31, 0), (31, .ireturn, 32, 0), (32, .aload_n 0, 33, 0), (33, .iload_n 1, 34, 0), (34, .invokevirtual 111, 37, 0), (37, .ifCond .ne 9, 40, 46), (40, .aload_n 0, 41, 0), (41, .iconst 3, 42, 0), (42, .invokevirtual 88, 45, 0), (45, .ireturn, 46, 0), (46, .aload_n 0, 47, 0), (47, .getfield 9, 50, 0), (50, .iload_n 1, 51, 0), (51, .invokestatic 58, 54, 0), (54, .iconst 2, 55, 0), (55, .iadd, 56, 0), (56, .iaload, 57, 0), (57, .istore_n 3, 58, 0), (58, .aload_n 0, 59, 0), (59, .getfield 9, 62, 0), (62, .iload_n 1, 63, 0), (63, .invokestatic 58, 66, 0), (66, .iconst 2, 67, 0), (67, .iadd, 68, 0), (68, .iload_n 2, 69, 0), (69, .iastore, 70, 0), (70, .iload_n 3, 71, 0), (71, .ireturn, 72, 0)]
theorem tX4_cargoIt_ok : pb_Tok cX4_cargoIt tX4_cargoIt := pb_Tok.cons dX4_cargoIt_0 rfl (pb_Tok.cons dX4_cargoIt_1 rfl (pb_Tok.cons dX4_cargoIt_2 rfl (pb_Tok.cons dX4_cargoIt_5 rfl (pb_Tok.cons dX4_cargoIt_8 rfl (pb_Tok.cons dX4_cargoIt_9 rfl (pb_Tok.cons dX4_cargoIt_10 rfl (pb_Tok.cons dX4_cargoIt_13 rfl (pb_Tok.cons dX4_cargoIt_14 rfl (pb_Tok.cons dX4_cargoIt_15 rfl (pb_Tok.cons dX4_cargoIt_16 rfl (pb_Tok.cons dX4_cargoIt_17 rfl (pb_Tok.cons dX4_cargoIt_20 rfl (pb_Tok.cons dX4_cargoIt_23 rfl (pb_Tok.cons dX4_cargoIt_26 rfl (pb_Tok.cons dX4_cargoIt_27 rfl (pb_Tok.cons dX4_cargoIt_28 rfl (pb_Tok.cons dX4_cargoIt_31 rfl (pb_Tok.cons dX4_cargoIt_32 rfl (pb_Tok.cons dX4_cargoIt_33 rfl (pb_Tok.cons dX4_cargoIt_34 rfl (pb_Tok.cons dX4_cargoIt_37 rfl (pb_Tok.cons dX4_cargoIt_40 rfl (pb_Tok.cons dX4_cargoIt_41 rfl (pb_Tok.cons dX4_cargoIt_42 rfl (pb_Tok.cons dX4_cargoIt_45 rfl (pb_Tok.cons dX4_cargoIt_46 rfl (pb_Tok.cons dX4_cargoIt_47 rfl (pb_Tok.cons dX4_cargoIt_50 rfl (pb_Tok.cons dX4_cargoIt_51 rfl (pb_Tok.cons dX4_cargoIt_54 rfl (pb_Tok.cons dX4_cargoIt_55 rfl (pb_Tok.cons dX4_cargoIt_56 rfl (pb_Tok.cons dX4_cargoIt_57 rfl (pb_Tok.cons dX4_cargoIt_58 rfl (pb_Tok.cons dX4_cargoIt_59 rfl (pb_Tok.cons dX4_cargoIt_62 rfl (pb_Tok.cons dX4_cargoIt_63 rfl (pb_Tok.cons dX4_cargoIt_66 rfl (pb_Tok.cons dX4_cargoIt_67 rfl (pb_Tok.cons dX4_cargoIt_68 rfl (pb_Tok.cons dX4_cargoIt_69 rfl (pb_Tok.cons dX4_cargoIt_70 rfl (pb_Tok.cons dX4_cargoIt_71 rfl pb_Tok.nil)))))))))))))))))))))))))))))))))))))))))))
def tX4_isWorked : pb_T := [(0, .aload_n 0, 1, 0), (1, .iload_n 1, 2, 0), (2, .invokevirtual 81, 5, 0), (5, .ifCond .eq 12, 8, 17), (8, .aload_n 0, 9, 0), (9, .iload_n 1, 10, 0), (10, .invokevirtual 81, 13, 0), (13, .iconst 1, 14, 0), (14, .if_icmp .ne 7, 17, 21), (17, .iconst 1, 18, 0), (18, .goto 4, 21, 22), (21, .iconst 0, 22, 0), (22, .ireturn, 23, 0)]
theorem tX4_isWorked_ok : pb_Tok cX4_isWorked tX4_isWorked := pb_Tok.cons dX4_isWorked_0 rfl (pb_Tok.cons dX4_isWorked_1 rfl (pb_Tok.cons dX4_isWorked_2 rfl (pb_Tok.cons dX4_isWorked_5 rfl (pb_Tok.cons dX4_isWorked_8 rfl (pb_Tok.cons dX4_isWorked_9 rfl (pb_Tok.cons dX4_isWorked_10 rfl (pb_Tok.cons dX4_isWorked_13 rfl (pb_Tok.cons dX4_isWorked_14 rfl (pb_Tok.cons dX4_isWorked_17 rfl (pb_Tok.cons dX4_isWorked_18 rfl (pb_Tok.cons dX4_isWorked_21 rfl (pb_Tok.cons dX4_isWorked_22 rfl pb_Tok.nil))))))))))))
def tX4_launch : pb_T := [(0, .aload_n 0, 1, 0), (1, .invokevirtual 91, 4, 0), (4, .aload_n 0, 5, 0), (5, .aload_n 0, 6, 0), (6, .iload_n 1, 7, 0), (7, .invokevirtual 129, 10, 0), (10, .invokevirtual 98, 13, 0), (13, .ireturn, 14, 0)]
theorem tX4_launch_ok : pb_Tok cX4_launch tX4_launch := pb_Tok.cons dX4_launch_0 rfl (pb_Tok.cons dX4_launch_1 rfl (pb_Tok.cons dX4_launch_4 rfl (pb_Tok.cons dX4_launch_5 rfl (pb_Tok.cons dX4_launch_6 rfl (pb_Tok.cons dX4_launch_7 rfl (pb_Tok.cons dX4_launch_10 rfl (pb_Tok.cons dX4_launch_13 rfl pb_Tok.nil)))))))
def tX4_launchIt_0 : pb_T := [(0, .aload_n 0, 1, 0), (1, .iload_n 1, 2, 0), (2, .invokevirtual 84, 5, 0), (5, .ifCond .ne 9, 8, 14), (8, .aload_n 0, 9, 0), (9, .iconst 1, 10, 0), (10, .invokevirtual 88, 13, 0), (13, .ireturn, 14, 0), (14, .aload_n 0, 15, 0), (15, .iload_n 1, 16, 0), (16, .invokevirtual 81, 19, 0), (19, .ifCond .eq 9, 22, 28), (22, .aload_n 0, 23, 0), (23, .iconst 2, 24, 0), (24, .invokevirtual 88, 27, 0), (27, .ireturn, 28, 0), (28, .aload_n 0, 29, 0), (29, .iload_n 1, 30, 0), (30, .aload_n 0, 31, 0), (31, .iload_n 1, 32, 0), (32, .invokevirtual 117, 35, 0), (35, .invokevirtual 120, 38, 0), (38, .istore_n 2, 39, 0), (39, .aload_n 0, 40, 0), (40, .iload_n 1, 41, 0), (41, .invokevirtual 62, 44, 0), (44, .iconst 2, 45, 0), (45, .if_icmp .ge 7, 48, 52), (48, .iconst 1, 49, 0), (49, .goto 31, 52, 80), (52, .iload_n 2, 53, 0), (53, .iconst (-1), 54, 0), (54, .if_icmp .ne 7, 57, 61), (57, .iconst 2, 58, 0), (58, .goto 22, 61, 80), (61, .iload_n 2, 62, 0), (62, .aload_n 0, 63, 0), (63, .aload_n 0, 64, 0), (64, .getfield 9, 67, 0), (67, .iconst 1, 68, 0), (68, .iaload, 69, 0), (69, .invokevirtual 123, 72, 0), (72, .if_icmp .le 7, 75, 79), (75, .iconst 3, 76, 0), (76, .goto 4, 79, 80), (79, .iconst 0, 80, 0), (80, .istore_n 3, 81, 0), (81, .iload_n 3, 82, 0), (82, .ifCond .le 14, 85, 96), (85, .aload_n 0, 86, 0), (86, .iload_n 3, 87, 0), (87, .putfield 126, 90, 0), (90, .aload_n 0, 91, 0), (91, .iconst 3, 92, 0), (92, .invokevirtual 88, 95, 0), (95, .ireturn, 96, 0), (96, .aload_n 0, 97, 0), (97, .getfield 9, 100, 0), (100, .iload_n 1, 101, 0), (101, .invokestatic 58, 104, 0)]
theorem tX4_launchIt_0_ok : pb_Tok cX4_launchIt tX4_launchIt_0 := pb_Tok.cons dX4_launchIt_0 rfl (pb_Tok.cons dX4_launchIt_1 rfl (pb_Tok.cons dX4_launchIt_2 rfl (pb_Tok.cons dX4_launchIt_5 rfl (pb_Tok.cons dX4_launchIt_8 rfl (pb_Tok.cons dX4_launchIt_9 rfl (pb_Tok.cons dX4_launchIt_10 rfl (pb_Tok.cons dX4_launchIt_13 rfl (pb_Tok.cons dX4_launchIt_14 rfl (pb_Tok.cons dX4_launchIt_15 rfl (pb_Tok.cons dX4_launchIt_16 rfl (pb_Tok.cons dX4_launchIt_19 rfl (pb_Tok.cons dX4_launchIt_22 rfl (pb_Tok.cons dX4_launchIt_23 rfl (pb_Tok.cons dX4_launchIt_24 rfl (pb_Tok.cons dX4_launchIt_27 rfl (pb_Tok.cons dX4_launchIt_28 rfl (pb_Tok.cons dX4_launchIt_29 rfl (pb_Tok.cons dX4_launchIt_30 rfl (pb_Tok.cons dX4_launchIt_31 rfl (pb_Tok.cons dX4_launchIt_32 rfl (pb_Tok.cons dX4_launchIt_35 rfl (pb_Tok.cons dX4_launchIt_38 rfl (pb_Tok.cons dX4_launchIt_39 rfl (pb_Tok.cons dX4_launchIt_40 rfl (pb_Tok.cons dX4_launchIt_41 rfl (pb_Tok.cons dX4_launchIt_44 rfl (pb_Tok.cons dX4_launchIt_45 rfl (pb_Tok.cons dX4_launchIt_48 rfl (pb_Tok.cons dX4_launchIt_49 rfl (pb_Tok.cons dX4_launchIt_52 rfl (pb_Tok.cons dX4_launchIt_53 rfl (pb_Tok.cons dX4_launchIt_54 rfl (pb_Tok.cons dX4_launchIt_57 rfl (pb_Tok.cons dX4_launchIt_58 rfl (pb_Tok.cons dX4_launchIt_61 rfl (pb_Tok.cons dX4_launchIt_62 rfl (pb_Tok.cons dX4_launchIt_63 rfl (pb_Tok.cons dX4_launchIt_64 rfl (pb_Tok.cons dX4_launchIt_67 rfl (pb_Tok.cons dX4_launchIt_68 rfl (pb_Tok.cons dX4_launchIt_69 rfl (pb_Tok.cons dX4_launchIt_72 rfl (pb_Tok.cons dX4_launchIt_75 rfl (pb_Tok.cons dX4_launchIt_76 rfl (pb_Tok.cons dX4_launchIt_79 rfl (pb_Tok.cons dX4_launchIt_80 rfl (pb_Tok.cons dX4_launchIt_81 rfl (pb_Tok.cons dX4_launchIt_82 rfl (pb_Tok.cons dX4_launchIt_85 rfl (pb_Tok.cons dX4_launchIt_86 rfl (pb_Tok.cons dX4_launchIt_87 rfl (pb_Tok.cons dX4_launchIt_90 rfl (pb_Tok.cons dX4_launchIt_91 rfl (pb_Tok.cons dX4_launchIt_92 rfl (pb_Tok.cons dX4_launchIt_95 rfl (pb_Tok.cons dX4_launchIt_96 rfl (pb_Tok.cons dX4_launchIt_97 rfl (pb_Tok.cons dX4_launchIt_100 rfl (pb_Tok.cons dX4_launchIt_101 rfl pb_Tok.nil)))))))))))))))))))))))))))))))))))))))))))))))))))))))))))
def tX4_launchIt_1 : pb_T := [(104, .iconst 1, 105, 0), (105, .iastore, 106, 0), (106, .iload_n 2, 107, 0), (107, .ireturn, 108, 0)]
theorem tX4_launchIt_1_ok : pb_Tok cX4_launchIt tX4_launchIt_1 := pb_Tok.cons dX4_launchIt_104 rfl (pb_Tok.cons dX4_launchIt_105 rfl (pb_Tok.cons dX4_launchIt_106 rfl (pb_Tok.cons dX4_launchIt_107 rfl pb_Tok.nil)))
def tX4_launchIt : pb_T := tX4_launchIt_0 ++ (tX4_launchIt_1)
theorem tX4_launchIt_ok : pb_Tok cX4_launchIt tX4_launchIt := pb_Tok.app tX4_launchIt_0_ok (tX4_launchIt_1_ok)
def tX4_weight : pb_T := [(0, .aload_n 0, 1, 0), (1, .iload_n 1, 2, 0), (2, .invokevirtual 75, 5, 0), (5, .aload_n 0, 6, 0), (6, .getfield 9, 9, 0), (9, .iload_n 1, 10, 0), (10, .invokestatic 58, 13, 0), (13, .iconst 3, 14, 0), (14, .iadd, 15, 0), (15, .iaload, 16, 0), (16, .iadd, 17, 0), (17, .ireturn, 18, 0)]
theorem tX4_weight_ok : pb_Tok cX4_weight tX4_weight := pb_Tok.cons dX4_weight_0 rfl (pb_Tok.cons dX4_weight_1 rfl (pb_Tok.cons dX4_weight_2 rfl (pb_Tok.cons dX4_weight_5 rfl (pb_Tok.cons dX4_weight_6 rfl (pb_Tok.cons dX4_weight_9 rfl (pb_Tok.cons dX4_weight_10 rfl (pb_Tok.cons dX4_weight_13 rfl (pb_Tok.cons dX4_weight_14 rfl (pb_Tok.cons dX4_weight_15 rfl (pb_Tok.cons dX4_weight_16 rfl (pb_Tok.cons dX4_weight_17 rfl pb_Tok.nil)))))))))))
def tX4_dry : pb_T := [(0, .aload_n 0, 1, 0), (1, .getfield 9, 4, 0), (4, .iload_n 1, 5, 0), (5, .invokestatic 58, 8, 0), (8, .iconst 2, 9, 0), (9, .iadd, 10, 0), (10, .iaload, 11, 0), (11, .istore_n 2, 12, 0), (12, .iconst 0, 13, 0), (13, .istore_n 3, 14, 0), (14, .iload_n 3, 15, 1), (15, .aload_n 0, 16, 0), (16, .iload_n 1, 17, 0), (17, .invokevirtual 62, 20, 0), (20, .if_icmp .ge 27, 23, 47), (23, .iload_n 2, 24, 0), (24, .aload_n 0, 25, 0), (25, .iload_n 1, 26, 0), (26, .iload_n 3, 27, 0), (27, .iconst 0, 28, 0), (28, .invokevirtual 71, 31, 0), (31, .aload_n 0, 32, 0), (32, .iload_n 1, 33, 0), (33, .iload_n 3, 34, 0), (34, .iconst 1, 35, 0), (35, .invokevirtual 71, 38, 0), (38, .iadd, 39, 0), (39, .iadd, 40, 0), (40, .istore_n 2, 41, 0), (41, .iinc 3 1, 44, 0), (44, .goto (-30), 47, 14), (47, .iload_n 2, 48, 0), (48, .ireturn, 49, 0)]
theorem tX4_dry_ok : pb_Tok cX4_dry tX4_dry := pb_Tok.cons dX4_dry_0 rfl (pb_Tok.cons dX4_dry_1 rfl (pb_Tok.cons dX4_dry_4 rfl (pb_Tok.cons dX4_dry_5 rfl (pb_Tok.cons dX4_dry_8 rfl (pb_Tok.cons dX4_dry_9 rfl (pb_Tok.cons dX4_dry_10 rfl (pb_Tok.cons dX4_dry_11 rfl (pb_Tok.cons dX4_dry_12 rfl (pb_Tok.cons dX4_dry_13 rfl (pb_Tok.cons dX4_dry_14 rfl (pb_Tok.cons dX4_dry_15 rfl (pb_Tok.cons dX4_dry_16 rfl (pb_Tok.cons dX4_dry_17 rfl (pb_Tok.cons dX4_dry_20 rfl (pb_Tok.cons dX4_dry_23 rfl (pb_Tok.cons dX4_dry_24 rfl (pb_Tok.cons dX4_dry_25 rfl (pb_Tok.cons dX4_dry_26 rfl (pb_Tok.cons dX4_dry_27 rfl (pb_Tok.cons dX4_dry_28 rfl (pb_Tok.cons dX4_dry_31 rfl (pb_Tok.cons dX4_dry_32 rfl (pb_Tok.cons dX4_dry_33 rfl (pb_Tok.cons dX4_dry_34 rfl (pb_Tok.cons dX4_dry_35 rfl (pb_Tok.cons dX4_dry_38 rfl (pb_Tok.cons dX4_dry_39 rfl (pb_Tok.cons dX4_dry_40 rfl (pb_Tok.cons dX4_dry_41 rfl (pb_Tok.cons dX4_dry_44 rfl (pb_Tok.cons dX4_dry_47 rfl (pb_Tok.cons dX4_dry_48 rfl pb_Tok.nil))))))))))))))))))))))))))))))))
def tX4_draught : pb_T := [(0, .iconst 0, 1, 0), (1, .istore_n 3, 2, 0), (2, .iconst 0, 3, 0), (3, .istore 4, 5, 0), (5, .iload 4, 7, 1), (7, .aload_n 0, 8, 0), (8, .iload_n 1, 9, 0), (9, .invokevirtual 78, 12, 0), (12, .if_icmp .ge 51, 15, 63), (15, .iload_n 3, 16, 0), (16, .aload_n 0, 17, 0), (17, .iload_n 1, 18, 0), (18, .iload 4, 20, 0), (20, .iconst 0, 21, 0), (21, .invokevirtual 71, 24, 0), (24, .aload_n 0, 25, 0), (25, .iload_n 1, 26, 0), (26, .iload 4, 28, 0), (28, .iconst 1, 29, 0), (29, .invokevirtual 71, 32, 0), (32, .iadd, 33, 0), (33, .aload_n 0, 34, 0), (34, .iload_n 1, 35, 0), (35, .iload 4, 37, 0), (37, .iconst 1, 38, 0), (38, .iadd, 39, 0), (39, .iconst 0, 40, 0), (40, .invokevirtual 71, 43, 0), (43, .iadd, 44, 0), (44, .aload_n 0, 45, 0), (45, .iload_n 1, 46, 0), (46, .iload 4, 48, 0), (48, .iconst 1, 49, 0), (49, .iadd, 50, 0), (50, .iconst 1, 51, 0), (51, .invokevirtual 71, 54, 0), (54, .iadd, 55, 0), (55, .iadd, 56, 0), (56, .istore_n 3, 57, 0), (57, .iinc 4 1, 60, 0), (60, .goto (-55), 63, 5), (63, .iconst 0, 64, 0), (64, .istore 4, 66, 0), (66, .iload 4, 68, 1), (68, .bipush 40, 70, 0), (70, .if_icmp .gt 22, 73, 92), (73, .iload_n 3, 74, 0), (74, .iload 4, 76, 0), (76, .imul, 77, 0), (77, .iconst 2, 78, 0), (78, .idiv, 79, 0), (79, .iload_n 2, 80, 0), (80, .if_icmp .lt 6, 83, 86), (83, .iload 4, 85, 0), (85, .ireturn, 86, 0), (86, .iinc 4 1, 89, 0), (89, .goto (-23), 92, 66), (92, .iconst (-1), 93, 0), (93, .ireturn, 94, 0)]
theorem tX4_draught_ok : pb_Tok cX4_draught tX4_draught := pb_Tok.cons dX4_draught_0 rfl (pb_Tok.cons dX4_draught_1 rfl (pb_Tok.cons dX4_draught_2 rfl (pb_Tok.cons dX4_draught_3 rfl (pb_Tok.cons dX4_draught_5 rfl (pb_Tok.cons dX4_draught_7 rfl (pb_Tok.cons dX4_draught_8 rfl (pb_Tok.cons dX4_draught_9 rfl (pb_Tok.cons dX4_draught_12 rfl (pb_Tok.cons dX4_draught_15 rfl (pb_Tok.cons dX4_draught_16 rfl (pb_Tok.cons dX4_draught_17 rfl (pb_Tok.cons dX4_draught_18 rfl (pb_Tok.cons dX4_draught_20 rfl (pb_Tok.cons dX4_draught_21 rfl (pb_Tok.cons dX4_draught_24 rfl (pb_Tok.cons dX4_draught_25 rfl (pb_Tok.cons dX4_draught_26 rfl (pb_Tok.cons dX4_draught_28 rfl (pb_Tok.cons dX4_draught_29 rfl (pb_Tok.cons dX4_draught_32 rfl (pb_Tok.cons dX4_draught_33 rfl (pb_Tok.cons dX4_draught_34 rfl (pb_Tok.cons dX4_draught_35 rfl (pb_Tok.cons dX4_draught_37 rfl (pb_Tok.cons dX4_draught_38 rfl (pb_Tok.cons dX4_draught_39 rfl (pb_Tok.cons dX4_draught_40 rfl (pb_Tok.cons dX4_draught_43 rfl (pb_Tok.cons dX4_draught_44 rfl (pb_Tok.cons dX4_draught_45 rfl (pb_Tok.cons dX4_draught_46 rfl (pb_Tok.cons dX4_draught_48 rfl (pb_Tok.cons dX4_draught_49 rfl (pb_Tok.cons dX4_draught_50 rfl (pb_Tok.cons dX4_draught_51 rfl (pb_Tok.cons dX4_draught_54 rfl (pb_Tok.cons dX4_draught_55 rfl (pb_Tok.cons dX4_draught_56 rfl (pb_Tok.cons dX4_draught_57 rfl (pb_Tok.cons dX4_draught_60 rfl (pb_Tok.cons dX4_draught_63 rfl (pb_Tok.cons dX4_draught_64 rfl (pb_Tok.cons dX4_draught_66 rfl (pb_Tok.cons dX4_draught_68 rfl (pb_Tok.cons dX4_draught_70 rfl (pb_Tok.cons dX4_draught_73 rfl (pb_Tok.cons dX4_draught_74 rfl (pb_Tok.cons dX4_draught_76 rfl (pb_Tok.cons dX4_draught_77 rfl (pb_Tok.cons dX4_draught_78 rfl (pb_Tok.cons dX4_draught_79 rfl (pb_Tok.cons dX4_draught_80 rfl (pb_Tok.cons dX4_draught_83 rfl (pb_Tok.cons dX4_draught_85 rfl (pb_Tok.cons dX4_draught_86 rfl (pb_Tok.cons dX4_draught_89 rfl (pb_Tok.cons dX4_draught_92 rfl (pb_Tok.cons dX4_draught_93 rfl pb_Tok.nil))))))))))))))))))))))))))))))))))))))))))))))))))))))))))
def tX4_seams : pb_T := [(0, .iconst 0, 1, 0), (1, .aload_n 0, 2, 0), (2, .iload_n 1, 3, 0), (3, .invokevirtual 62, 6, 0), (6, .iconst 1, 7, 0), (7, .isub, 8, 0), (8, .invokestatic 65, 11, 0), (11, .ireturn, 12, 0)]
theorem tX4_seams_ok : pb_Tok cX4_seams tX4_seams := pb_Tok.cons dX4_seams_0 rfl (pb_Tok.cons dX4_seams_1 rfl (pb_Tok.cons dX4_seams_2 rfl (pb_Tok.cons dX4_seams_3 rfl (pb_Tok.cons dX4_seams_6 rfl (pb_Tok.cons dX4_seams_7 rfl (pb_Tok.cons dX4_seams_8 rfl (pb_Tok.cons dX4_seams_11 rfl pb_Tok.nil)))))))
def tX4_tide : pb_T := [(0, .aload_n 0, 1, 0), (1, .getfield 9, 4, 0), (4, .iconst 5, 5, 0), (5, .iload_n 1, 6, 0), (6, .bipush 12, 8, 0), (8, .irem, 9, 0), (9, .iadd, 10, 0), (10, .iaload, 11, 0), (11, .ireturn, 12, 0)]
theorem tX4_tide_ok : pb_Tok cX4_tide tX4_tide := pb_Tok.cons dX4_tide_0 rfl (pb_Tok.cons dX4_tide_1 rfl (pb_Tok.cons dX4_tide_4 rfl (pb_Tok.cons dX4_tide_5 rfl (pb_Tok.cons dX4_tide_6 rfl (pb_Tok.cons dX4_tide_8 rfl (pb_Tok.cons dX4_tide_9 rfl (pb_Tok.cons dX4_tide_10 rfl (pb_Tok.cons dX4_tide_11 rfl pb_Tok.nil))))))))
def tX4_caulk : pb_T := [(0, .aload_n 0, 1, 0), (1, .invokevirtual 91, 4, 0), (4, .aload_n 0, 5, 0), (5, .aload_n 0, 6, 0), (6, .iload_n 1, 7, 0), (7, .iload_n 2, 8, 0), (8, .invokevirtual 136, 11, 0), (11, .invokevirtual 98, 14, 0), (14, .ireturn, 15, 0)]
theorem tX4_caulk_ok : pb_Tok cX4_caulk tX4_caulk := pb_Tok.cons dX4_caulk_0 rfl (pb_Tok.cons dX4_caulk_1 rfl (pb_Tok.cons dX4_caulk_4 rfl (pb_Tok.cons dX4_caulk_5 rfl (pb_Tok.cons dX4_caulk_6 rfl (pb_Tok.cons dX4_caulk_7 rfl (pb_Tok.cons dX4_caulk_8 rfl (pb_Tok.cons dX4_caulk_11 rfl (pb_Tok.cons dX4_caulk_14 rfl pb_Tok.nil))))))))
def tX4_caulkIt : pb_T := [(0, .aload_n 0, 1, 0), (1, .iload_n 1, 2, 0), (2, .iload_n 2, 3, 0), (3, .invokevirtual 132, 6, 0), (6, .ifCond .ne 9, 9, 15), (9, .aload_n 0, 10, 0), (10, .iconst 1, 11, 0), (11, .invokevirtual 88, 14, 0), (14, .ireturn, 15, 0), (15, .aload_n 0, 16, 0), (16, .iload_n 1, 17, 0), (17, .invokevirtual 111, 20, 0), (20, .ifCond .ne 9, 23, 29), (23, .aload_n 0, 24, 0), (24, .iconst 2, 25, 0), (25, .invokevirtual 88, 28, 0), (28, .ireturn, 29, 0), (29, .aload_n 0, 30, 0), (30, .getfield 9, 33, 0), (33, .iload_n 1, 34, 0), (34, .invokestatic 58, 37, 0), (37, .bipush 20, 39, 0), (39, .iadd, 40, 0), (40, .iload_n 2, 41, 0), (41, .iadd, 42, 0), (42, .iaload, 43, 0), (43, .istore_n 3, 44, 0), (44, .aload_n 0, 45, 0), (45, .getfield 9, 48, 0), (48, .iload_n 1, 49, 0), (49, .invokestatic 58, 52, 0), (52, .bipush 20, 54, 0), (54, .iadd, 55, 0), (55, .iload_n 2, 56, 0), (56, .iadd, 57, 0), (57, .bipush 9, 59, 0), (59, .iastore, 60, 0), (60, .iload_n 3, 61, 0), (61, .ireturn, 62, 0)]
theorem tX4_caulkIt_ok : pb_Tok cX4_caulkIt tX4_caulkIt := pb_Tok.cons dX4_caulkIt_0 rfl (pb_Tok.cons dX4_caulkIt_1 rfl (pb_Tok.cons dX4_caulkIt_2 rfl (pb_Tok.cons dX4_caulkIt_3 rfl (pb_Tok.cons dX4_caulkIt_6 rfl (pb_Tok.cons dX4_caulkIt_9 rfl (pb_Tok.cons dX4_caulkIt_10 rfl (pb_Tok.cons dX4_caulkIt_11 rfl (pb_Tok.cons dX4_caulkIt_14 rfl (pb_Tok.cons dX4_caulkIt_15 rfl (pb_Tok.cons dX4_caulkIt_16 rfl (pb_Tok.cons dX4_caulkIt_17 rfl (pb_Tok.cons dX4_caulkIt_20 rfl (pb_Tok.cons dX4_caulkIt_23 rfl (pb_Tok.cons dX4_caulkIt_24 rfl (pb_Tok.cons dX4_caulkIt_25 rfl (pb_Tok.cons dX4_caulkIt_28 rfl (pb_Tok.cons dX4_caulkIt_29 rfl (pb_Tok.cons dX4_caulkIt_30 rfl (pb_Tok.cons dX4_caulkIt_33 rfl (pb_Tok.cons dX4_caulkIt_34 rfl (pb_Tok.cons dX4_caulkIt_37 rfl (pb_Tok.cons dX4_caulkIt_39 rfl (pb_Tok.cons dX4_caulkIt_40 rfl (pb_Tok.cons dX4_caulkIt_41 rfl (pb_Tok.cons dX4_caulkIt_42 rfl (pb_Tok.cons dX4_caulkIt_43 rfl (pb_Tok.cons dX4_caulkIt_44 rfl (pb_Tok.cons dX4_caulkIt_45 rfl (pb_Tok.cons dX4_caulkIt_48 rfl (pb_Tok.cons dX4_caulkIt_49 rfl (pb_Tok.cons dX4_caulkIt_52 rfl (pb_Tok.cons dX4_caulkIt_54 rfl (pb_Tok.cons dX4_caulkIt_55 rfl (pb_Tok.cons dX4_caulkIt_56 rfl (pb_Tok.cons dX4_caulkIt_57 rfl (pb_Tok.cons dX4_caulkIt_59 rfl (pb_Tok.cons dX4_caulkIt_60 rfl (pb_Tok.cons dX4_caulkIt_61 rfl pb_Tok.nil))))))))))))))))))))))))))))))))))))))
def tX4_isSeam : pb_T := [(0, .aload_n 0, 1, 0), (1, .iload_n 1, 2, 0), (2, .invokevirtual 84, 5, 0), (5, .ifCond .eq 24, 8, 29), (8, .iload_n 2, 9, 0), (9, .i2l, 10, 0), (10, .lconst 0, 11, 0), (11, .aload_n 0, 12, 0), (12, .iload_n 1, 13, 0), (13, .invokevirtual 78, 16, 0), (16, .iconst 1, 17, 0), (17, .isub, 18, 0), (18, .i2l, 19, 0), (19, .invokestatic 54, 22, 0), (22, .ifCond .eq 7, 25, 29), (25, .iconst 1, 26, 0), (26, .goto 4, 29, 30), (29, .iconst 0, 30, 0), (30, .ireturn, 31, 0)]
theorem tX4_isSeam_ok : pb_Tok cX4_isSeam tX4_isSeam := pb_Tok.cons dX4_isSeam_0 rfl (pb_Tok.cons dX4_isSeam_1 rfl (pb_Tok.cons dX4_isSeam_2 rfl (pb_Tok.cons dX4_isSeam_5 rfl (pb_Tok.cons dX4_isSeam_8 rfl (pb_Tok.cons dX4_isSeam_9 rfl (pb_Tok.cons dX4_isSeam_10 rfl (pb_Tok.cons dX4_isSeam_11 rfl (pb_Tok.cons dX4_isSeam_12 rfl (pb_Tok.cons dX4_isSeam_13 rfl (pb_Tok.cons dX4_isSeam_16 rfl (pb_Tok.cons dX4_isSeam_17 rfl (pb_Tok.cons dX4_isSeam_18 rfl (pb_Tok.cons dX4_isSeam_19 rfl (pb_Tok.cons dX4_isSeam_22 rfl (pb_Tok.cons dX4_isSeam_25 rfl (pb_Tok.cons dX4_isSeam_26 rfl (pb_Tok.cons dX4_isSeam_29 rfl (pb_Tok.cons dX4_isSeam_30 rfl pb_Tok.nil))))))))))))))))))
def tX4_pump : pb_T := [(0, .aload_n 0, 1, 0), (1, .invokevirtual 91, 4, 0), (4, .aload_n 0, 5, 0), (5, .aload_n 0, 6, 0), (6, .iload_n 1, 7, 0), (7, .iload_n 2, 8, 0), (8, .invokevirtual 139, 11, 0), (11, .invokevirtual 98, 14, 0), (14, .ireturn, 15, 0)]
theorem tX4_pump_ok : pb_Tok cX4_pump tX4_pump := pb_Tok.cons dX4_pump_0 rfl (pb_Tok.cons dX4_pump_1 rfl (pb_Tok.cons dX4_pump_4 rfl (pb_Tok.cons dX4_pump_5 rfl (pb_Tok.cons dX4_pump_6 rfl (pb_Tok.cons dX4_pump_7 rfl (pb_Tok.cons dX4_pump_8 rfl (pb_Tok.cons dX4_pump_11 rfl (pb_Tok.cons dX4_pump_14 rfl pb_Tok.nil))))))))
def tX4_pumpIt : pb_T := [(0, .aload_n 0, 1, 0), (1, .iload_n 1, 2, 0), (2, .invokevirtual 84, 5, 0), (5, .ifCond .ne 9, 8, 14), (8, .aload_n 0, 9, 0), (9, .iconst 1, 10, 0), (10, .invokevirtual 88, 13, 0), (13, .ireturn, 14, 0), (14, .iload_n 2, 15, 0), (15, .i2l, 16, 0), (16, .lconst 1, 17, 0), (17, .ldc2_w 109, 20, 0), (20, .invokestatic 54, 23, 0), (23, .ifCond .ne 9, 26, 32), (26, .aload_n 0, 27, 0), (27, .iconst 2, 28, 0), (28, .invokevirtual 88, 31, 0), (31, .ireturn, 32, 0), (32, .aload_n 0, 33, 0), (33, .iload_n 1, 34, 0), (34, .invokevirtual 81, 37, 0), (37, .iconst 1, 38, 0), (38, .if_icmp .eq 9, 41, 47), (41, .aload_n 0, 42, 0), (42, .iconst 3, 43, 0), (43, .invokevirtual 88, 46, 0), (46, .ireturn, 47, 0), (47, .aload_n 0, 48, 0), (48, .getfield 9, 51, 0), (51, .iload_n 1, 52, 0), (52, .invokestatic 58, 55, 0), (55, .iconst 3, 56, 0), (56, .iadd, 57, 0), (57, .iconst 0, 58, 0), (58, .aload_n 0, 59, 0), (59, .getfield 9, 62, 0), (62, .iload_n 1, 63, 0), (63, .invokestatic 58, 66, 0), (66, .iconst 3, 67, 0), (67, .iadd, 68, 0), (68, .iaload, 69, 0), (69, .iload_n 2, 70, 0), (70, .isub, 71, 0), (71, .invokestatic 65, 74, 0), (74, .iastore, 75, 0), (75, .aload_n 0, 76, 0), (76, .getfield 9, 79, 0), (79, .iload_n 1, 80, 0), (80, .invokestatic 58, 83, 0), (83, .iconst 3, 84, 0), (84, .iadd, 85, 0), (85, .iaload, 86, 0), (86, .ireturn, 87, 0)]
theorem tX4_pumpIt_ok : pb_Tok cX4_pumpIt tX4_pumpIt := pb_Tok.cons dX4_pumpIt_0 rfl (pb_Tok.cons dX4_pumpIt_1 rfl (pb_Tok.cons dX4_pumpIt_2 rfl (pb_Tok.cons dX4_pumpIt_5 rfl (pb_Tok.cons dX4_pumpIt_8 rfl (pb_Tok.cons dX4_pumpIt_9 rfl (pb_Tok.cons dX4_pumpIt_10 rfl (pb_Tok.cons dX4_pumpIt_13 rfl (pb_Tok.cons dX4_pumpIt_14 rfl (pb_Tok.cons dX4_pumpIt_15 rfl (pb_Tok.cons dX4_pumpIt_16 rfl (pb_Tok.cons dX4_pumpIt_17 rfl (pb_Tok.cons dX4_pumpIt_20 rfl (pb_Tok.cons dX4_pumpIt_23 rfl (pb_Tok.cons dX4_pumpIt_26 rfl (pb_Tok.cons dX4_pumpIt_27 rfl (pb_Tok.cons dX4_pumpIt_28 rfl (pb_Tok.cons dX4_pumpIt_31 rfl (pb_Tok.cons dX4_pumpIt_32 rfl (pb_Tok.cons dX4_pumpIt_33 rfl (pb_Tok.cons dX4_pumpIt_34 rfl (pb_Tok.cons dX4_pumpIt_37 rfl (pb_Tok.cons dX4_pumpIt_38 rfl (pb_Tok.cons dX4_pumpIt_41 rfl (pb_Tok.cons dX4_pumpIt_42 rfl (pb_Tok.cons dX4_pumpIt_43 rfl (pb_Tok.cons dX4_pumpIt_46 rfl (pb_Tok.cons dX4_pumpIt_47 rfl (pb_Tok.cons dX4_pumpIt_48 rfl (pb_Tok.cons dX4_pumpIt_51 rfl (pb_Tok.cons dX4_pumpIt_52 rfl (pb_Tok.cons dX4_pumpIt_55 rfl (pb_Tok.cons dX4_pumpIt_56 rfl (pb_Tok.cons dX4_pumpIt_57 rfl (pb_Tok.cons dX4_pumpIt_58 rfl (pb_Tok.cons dX4_pumpIt_59 rfl (pb_Tok.cons dX4_pumpIt_62 rfl (pb_Tok.cons dX4_pumpIt_63 rfl (pb_Tok.cons dX4_pumpIt_66 rfl (pb_Tok.cons dX4_pumpIt_67 rfl (pb_Tok.cons dX4_pumpIt_68 rfl (pb_Tok.cons dX4_pumpIt_69 rfl (pb_Tok.cons dX4_pumpIt_70 rfl (pb_Tok.cons dX4_pumpIt_71 rfl (pb_Tok.cons dX4_pumpIt_74 rfl (pb_Tok.cons dX4_pumpIt_75 rfl (pb_Tok.cons dX4_pumpIt_76 rfl (pb_Tok.cons dX4_pumpIt_79 rfl (pb_Tok.cons dX4_pumpIt_80 rfl (pb_Tok.cons dX4_pumpIt_83 rfl (pb_Tok.cons dX4_pumpIt_84 rfl (pb_Tok.cons dX4_pumpIt_85 rfl (pb_Tok.cons dX4_pumpIt_86 rfl pb_Tok.nil))))))))))))))))))))))))))))))))))))))))))))))))))))
def tX4_setTide : pb_T := [(0, .aload_n 0, 1, 0), (1, .invokevirtual 91, 4, 0), (4, .aload_n 0, 5, 0), (5, .aload_n 0, 6, 0), (6, .iload_n 1, 7, 0), (7, .iload_n 2, 8, 0), (8, .invokevirtual 146, 11, 0), (11, .invokevirtual 98, 14, 0), (14, .ireturn, 15, 0)]
theorem tX4_setTide_ok : pb_Tok cX4_setTide tX4_setTide := pb_Tok.cons dX4_setTide_0 rfl (pb_Tok.cons dX4_setTide_1 rfl (pb_Tok.cons dX4_setTide_4 rfl (pb_Tok.cons dX4_setTide_5 rfl (pb_Tok.cons dX4_setTide_6 rfl (pb_Tok.cons dX4_setTide_7 rfl (pb_Tok.cons dX4_setTide_8 rfl (pb_Tok.cons dX4_setTide_11 rfl (pb_Tok.cons dX4_setTide_14 rfl pb_Tok.nil))))))))
def tX4_tideIt : pb_T := [(0, .iload_n 1, 1, 0), (1, .i2l, 2, 0), (2, .lconst 0, 3, 0), (3, .ldc2_w 142, 6, 0), (6, .invokestatic 54, 9, 0), (9, .ifCond .eq 15, 12, 24), (12, .iload_n 2, 13, 0), (13, .i2l, 14, 0), (14, .lconst 0, 15, 0), (15, .ldc2_w 144, 18, 0), (18, .invokestatic 54, 21, 0), (21, .ifCond .ne 9, 24, 30), (24, .aload_n 0, 25, 0), (25, .iconst 1, 26, 0), (26, .invokevirtual 88, 29, 0), (29, .ireturn, 30, 0), (30, .aload_n 0, 31, 0), (31, .getfield 9, 34, 0), (34, .iconst 5, 35, 0), (35, .iload_n 1, 36, 0), (36, .iadd, 37, 0), (37, .iaload, 38, 0), (38, .istore_n 3, 39, 0), (39, .aload_n 0, 40, 0), (40, .getfield 9, 43, 0), (43, .iconst 5, 44, 0), (44, .iload_n 1, 45, 0), (45, .iadd, 46, 0), (46, .iload_n 2, 47, 0), (47, .iastore, 48, 0), (48, .iload_n 3, 49, 0), (49, .ireturn, 50, 0)]
theorem tX4_tideIt_ok : pb_Tok cX4_tideIt tX4_tideIt := pb_Tok.cons dX4_tideIt_0 rfl (pb_Tok.cons dX4_tideIt_1 rfl (pb_Tok.cons dX4_tideIt_2 rfl (pb_Tok.cons dX4_tideIt_3 rfl (pb_Tok.cons dX4_tideIt_6 rfl (pb_Tok.cons dX4_tideIt_9 rfl (pb_Tok.cons dX4_tideIt_12 rfl (pb_Tok.cons dX4_tideIt_13 rfl (pb_Tok.cons dX4_tideIt_14 rfl (pb_Tok.cons dX4_tideIt_15 rfl (pb_Tok.cons dX4_tideIt_18 rfl (pb_Tok.cons dX4_tideIt_21 rfl (pb_Tok.cons dX4_tideIt_24 rfl (pb_Tok.cons dX4_tideIt_25 rfl (pb_Tok.cons dX4_tideIt_26 rfl (pb_Tok.cons dX4_tideIt_29 rfl (pb_Tok.cons dX4_tideIt_30 rfl (pb_Tok.cons dX4_tideIt_31 rfl (pb_Tok.cons dX4_tideIt_34 rfl (pb_Tok.cons dX4_tideIt_35 rfl (pb_Tok.cons dX4_tideIt_36 rfl (pb_Tok.cons dX4_tideIt_37 rfl (pb_Tok.cons dX4_tideIt_38 rfl (pb_Tok.cons dX4_tideIt_39 rfl (pb_Tok.cons dX4_tideIt_40 rfl (pb_Tok.cons dX4_tideIt_43 rfl (pb_Tok.cons dX4_tideIt_44 rfl (pb_Tok.cons dX4_tideIt_45 rfl (pb_Tok.cons dX4_tideIt_46 rfl (pb_Tok.cons dX4_tideIt_47 rfl (pb_Tok.cons dX4_tideIt_48 rfl (pb_Tok.cons dX4_tideIt_49 rfl pb_Tok.nil)))))))))))))))))))))))))))))))
def tX4_pass : pb_T := [(0, .aload_n 0, 1, 0), (1, .invokevirtual 91, 4, 0), (4, .aload_n 0, 5, 0), (5, .aload_n 0, 6, 0), (6, .iload_n 1, 7, 0), (7, .invokevirtual 154, 10, 0), (10, .invokevirtual 98, 13, 0), (13, .ireturn, 14, 0)]
theorem tX4_pass_ok : pb_Tok cX4_pass tX4_pass := pb_Tok.cons dX4_pass_0 rfl (pb_Tok.cons dX4_pass_1 rfl (pb_Tok.cons dX4_pass_4 rfl (pb_Tok.cons dX4_pass_5 rfl (pb_Tok.cons dX4_pass_6 rfl (pb_Tok.cons dX4_pass_7 rfl (pb_Tok.cons dX4_pass_10 rfl (pb_Tok.cons dX4_pass_13 rfl pb_Tok.nil)))))))
def tX4_hoursIt : pb_T := [(0, .iload_n 1, 1, 0), (1, .i2l, 2, 0), (2, .lconst 1, 3, 0), (3, .ldc2_w 149, 6, 0), (6, .invokestatic 54, 9, 0), (9, .ifCond .ne 9, 12, 18), (12, .aload_n 0, 13, 0), (13, .iconst 1, 14, 0), (14, .invokevirtual 88, 17, 0), (17, .ireturn, 18, 0), (18, .iconst 0, 19, 0), (19, .istore_n 2, 20, 0), (20, .iconst 0, 21, 0), (21, .istore_n 3, 22, 0), (22, .iload_n 3, 23, 1), (23, .iload_n 1, 24, 0), (24, .if_icmp .ge 16, 27, 40), (27, .iload_n 2, 28, 0), (28, .aload_n 0, 29, 0), (29, .invokevirtual 151, 32, 0), (32, .iadd, 33, 0), (33, .istore_n 2, 34, 0), (34, .iinc 3 1, 37, 0), (37, .goto (-15), 40, 22), (40, .iload_n 2, 41, 0), (41, .ireturn, 42, 0)]
theorem tX4_hoursIt_ok : pb_Tok cX4_hoursIt tX4_hoursIt := pb_Tok.cons dX4_hoursIt_0 rfl (pb_Tok.cons dX4_hoursIt_1 rfl (pb_Tok.cons dX4_hoursIt_2 rfl (pb_Tok.cons dX4_hoursIt_3 rfl (pb_Tok.cons dX4_hoursIt_6 rfl (pb_Tok.cons dX4_hoursIt_9 rfl (pb_Tok.cons dX4_hoursIt_12 rfl (pb_Tok.cons dX4_hoursIt_13 rfl (pb_Tok.cons dX4_hoursIt_14 rfl (pb_Tok.cons dX4_hoursIt_17 rfl (pb_Tok.cons dX4_hoursIt_18 rfl (pb_Tok.cons dX4_hoursIt_19 rfl (pb_Tok.cons dX4_hoursIt_20 rfl (pb_Tok.cons dX4_hoursIt_21 rfl (pb_Tok.cons dX4_hoursIt_22 rfl (pb_Tok.cons dX4_hoursIt_23 rfl (pb_Tok.cons dX4_hoursIt_24 rfl (pb_Tok.cons dX4_hoursIt_27 rfl (pb_Tok.cons dX4_hoursIt_28 rfl (pb_Tok.cons dX4_hoursIt_29 rfl (pb_Tok.cons dX4_hoursIt_32 rfl (pb_Tok.cons dX4_hoursIt_33 rfl (pb_Tok.cons dX4_hoursIt_34 rfl (pb_Tok.cons dX4_hoursIt_37 rfl (pb_Tok.cons dX4_hoursIt_40 rfl (pb_Tok.cons dX4_hoursIt_41 rfl pb_Tok.nil)))))))))))))))))))))))))
def tX4_passesHour_0 : pb_T := [(0, .aload_n 0, 1, 0), (1, .getfield 9, 4, 0), (4, .iconst 1, 5, 0), (5, .dup2, 6, 0), (6, .iaload, 7, 0), (7, .iconst 1, 8, 0), (8, .iadd, 9, 0), (9, .iastore, 10, 0), (10, .iconst 0, 11, 0), (11, .istore_n 1, 12, 0), (12, .iconst 0, 13, 0), (13, .istore_n 2, 14, 0), (14, .iload_n 2, 15, 1), (15, .aload_n 0, 16, 0), (16, .getfield 9, 19, 0), (19, .iconst 0, 20, 0), (20, .iaload, 21, 0), (21, .if_icmp .ge 66, 24, 87), (24, .iconst 0, 25, 0), (25, .istore_n 3, 26, 0), (26, .iload_n 3, 27, 1), (27, .aload_n 0, 28, 0), (28, .iload_n 2, 29, 0), (29, .invokevirtual 78, 32, 0), (32, .if_icmp .ge 49, 35, 81), (35, .aload_n 0, 36, 0), (36, .iload_n 2, 37, 0), (37, .invokevirtual 81, 40, 0), (40, .iconst 1, 41, 0), (41, .if_icmp .ne 40, 44, 81), (44, .aload_n 0, 45, 0), (45, .getfield 9, 48, 0), (48, .iload_n 2, 49, 0), (49, .invokestatic 58, 52, 0), (52, .iconst 3, 53, 0), (53, .iadd, 54, 0), (54, .dup2, 55, 0), (55, .iaload, 56, 0), (56, .bipush 9, 58, 0), (58, .aload_n 0, 59, 0), (59, .getfield 9, 62, 0), (62, .iload_n 2, 63, 0), (63, .invokestatic 58, 66, 0), (66, .bipush 20, 68, 0), (68, .iadd, 69, 0), (69, .iload_n 3, 70, 0), (70, .iadd, 71, 0), (71, .iaload, 72, 0), (72, .isub, 73, 0), (73, .iadd, 74, 0), (74, .iastore, 75, 0), (75, .iinc 3 1, 78, 0), (78, .goto (-52), 81, 26), (81, .iinc 2 1, 84, 0), (84, .goto (-70), 87, 14), (87, .iconst 0, 88, 0), (88, .istore_n 2, 89, 0), (89, .iload_n 2, 90, 1), (90, .aload_n 0, 91, 0), (91, .getfield 9, 94, 0)]
theorem tX4_passesHour_0_ok : pb_Tok cX4_passesHour tX4_passesHour_0 := pb_Tok.cons dX4_passesHour_0 rfl (pb_Tok.cons dX4_passesHour_1 rfl (pb_Tok.cons dX4_passesHour_4 rfl (pb_Tok.cons dX4_passesHour_5 rfl (pb_Tok.cons dX4_passesHour_6 rfl (pb_Tok.cons dX4_passesHour_7 rfl (pb_Tok.cons dX4_passesHour_8 rfl (pb_Tok.cons dX4_passesHour_9 rfl (pb_Tok.cons dX4_passesHour_10 rfl (pb_Tok.cons dX4_passesHour_11 rfl (pb_Tok.cons dX4_passesHour_12 rfl (pb_Tok.cons dX4_passesHour_13 rfl (pb_Tok.cons dX4_passesHour_14 rfl (pb_Tok.cons dX4_passesHour_15 rfl (pb_Tok.cons dX4_passesHour_16 rfl (pb_Tok.cons dX4_passesHour_19 rfl (pb_Tok.cons dX4_passesHour_20 rfl (pb_Tok.cons dX4_passesHour_21 rfl (pb_Tok.cons dX4_passesHour_24 rfl (pb_Tok.cons dX4_passesHour_25 rfl (pb_Tok.cons dX4_passesHour_26 rfl (pb_Tok.cons dX4_passesHour_27 rfl (pb_Tok.cons dX4_passesHour_28 rfl (pb_Tok.cons dX4_passesHour_29 rfl (pb_Tok.cons dX4_passesHour_32 rfl (pb_Tok.cons dX4_passesHour_35 rfl (pb_Tok.cons dX4_passesHour_36 rfl (pb_Tok.cons dX4_passesHour_37 rfl (pb_Tok.cons dX4_passesHour_40 rfl (pb_Tok.cons dX4_passesHour_41 rfl (pb_Tok.cons dX4_passesHour_44 rfl (pb_Tok.cons dX4_passesHour_45 rfl (pb_Tok.cons dX4_passesHour_48 rfl (pb_Tok.cons dX4_passesHour_49 rfl (pb_Tok.cons dX4_passesHour_52 rfl (pb_Tok.cons dX4_passesHour_53 rfl (pb_Tok.cons dX4_passesHour_54 rfl (pb_Tok.cons dX4_passesHour_55 rfl (pb_Tok.cons dX4_passesHour_56 rfl (pb_Tok.cons dX4_passesHour_58 rfl (pb_Tok.cons dX4_passesHour_59 rfl (pb_Tok.cons dX4_passesHour_62 rfl (pb_Tok.cons dX4_passesHour_63 rfl (pb_Tok.cons dX4_passesHour_66 rfl (pb_Tok.cons dX4_passesHour_68 rfl (pb_Tok.cons dX4_passesHour_69 rfl (pb_Tok.cons dX4_passesHour_70 rfl (pb_Tok.cons dX4_passesHour_71 rfl (pb_Tok.cons dX4_passesHour_72 rfl (pb_Tok.cons dX4_passesHour_73 rfl (pb_Tok.cons dX4_passesHour_74 rfl (pb_Tok.cons dX4_passesHour_75 rfl (pb_Tok.cons dX4_passesHour_78 rfl (pb_Tok.cons dX4_passesHour_81 rfl (pb_Tok.cons dX4_passesHour_84 rfl (pb_Tok.cons dX4_passesHour_87 rfl (pb_Tok.cons dX4_passesHour_88 rfl (pb_Tok.cons dX4_passesHour_89 rfl (pb_Tok.cons dX4_passesHour_90 rfl (pb_Tok.cons dX4_passesHour_91 rfl pb_Tok.nil)))))))))))))))))))))))))))))))))))))))))))))))))))))))))))
def tX4_passesHour_1 : pb_T := [(94, .iconst 0, 95, 0), (95, .iaload, 96, 0), (96, .if_icmp .ge 81, 99, 177), (99, .iconst 0, 100, 0), (100, .istore_n 3, 101, 0), (101, .iload_n 3, 102, 1), (102, .aload_n 0, 103, 0), (103, .iload_n 2, 104, 0), (104, .invokevirtual 78, 107, 0), (107, .if_icmp .ge 64, 110, 171), (110, .aload_n 0, 111, 0), (111, .iload_n 2, 112, 0), (112, .invokevirtual 81, 115, 0), (115, .iconst 1, 116, 0), (116, .if_icmp .ne 55, 119, 171), (119, .aload_n 0, 120, 0), (120, .getfield 9, 123, 0), (123, .iconst 1, 124, 0), (124, .iaload, 125, 0), (125, .bipush 6, 127, 0), (127, .irem, 128, 0), (128, .ifCond .ne 43, 131, 171), (131, .aload_n 0, 132, 0), (132, .getfield 9, 135, 0), (135, .iload_n 2, 136, 0), (136, .invokestatic 58, 139, 0), (139, .bipush 20, 141, 0), (141, .iadd, 142, 0), (142, .iload_n 3, 143, 0), (143, .iadd, 144, 0), (144, .iconst 0, 145, 0), (145, .aload_n 0, 146, 0), (146, .getfield 9, 149, 0), (149, .iload_n 2, 150, 0), (150, .invokestatic 58, 153, 0), (153, .bipush 20, 155, 0), (155, .iadd, 156, 0), (156, .iload_n 3, 157, 0), (157, .iadd, 158, 0), (158, .iaload, 159, 0), (159, .iconst 1, 160, 0), (160, .isub, 161, 0), (161, .invokestatic 65, 164, 0), (164, .iastore, 165, 0), (165, .iinc 3 1, 168, 0), (168, .goto (-67), 171, 101), (171, .iinc 2 1, 174, 0), (174, .goto (-85), 177, 89), (177, .iconst 0, 178, 0), (178, .istore_n 2, 179, 0), (179, .iload_n 2, 180, 1), (180, .aload_n 0, 181, 0), (181, .getfield 9, 184, 0), (184, .iconst 0, 185, 0), (185, .iaload, 186, 0), (186, .if_icmp .ge 45, 189, 231), (189, .aload_n 0, 190, 0), (190, .iload_n 2, 191, 0), (191, .invokevirtual 81, 194, 0), (194, .iconst 1, 195, 0)]
theorem tX4_passesHour_1_ok : pb_Tok cX4_passesHour tX4_passesHour_1 := pb_Tok.cons dX4_passesHour_94 rfl (pb_Tok.cons dX4_passesHour_95 rfl (pb_Tok.cons dX4_passesHour_96 rfl (pb_Tok.cons dX4_passesHour_99 rfl (pb_Tok.cons dX4_passesHour_100 rfl (pb_Tok.cons dX4_passesHour_101 rfl (pb_Tok.cons dX4_passesHour_102 rfl (pb_Tok.cons dX4_passesHour_103 rfl (pb_Tok.cons dX4_passesHour_104 rfl (pb_Tok.cons dX4_passesHour_107 rfl (pb_Tok.cons dX4_passesHour_110 rfl (pb_Tok.cons dX4_passesHour_111 rfl (pb_Tok.cons dX4_passesHour_112 rfl (pb_Tok.cons dX4_passesHour_115 rfl (pb_Tok.cons dX4_passesHour_116 rfl (pb_Tok.cons dX4_passesHour_119 rfl (pb_Tok.cons dX4_passesHour_120 rfl (pb_Tok.cons dX4_passesHour_123 rfl (pb_Tok.cons dX4_passesHour_124 rfl (pb_Tok.cons dX4_passesHour_125 rfl (pb_Tok.cons dX4_passesHour_127 rfl (pb_Tok.cons dX4_passesHour_128 rfl (pb_Tok.cons dX4_passesHour_131 rfl (pb_Tok.cons dX4_passesHour_132 rfl (pb_Tok.cons dX4_passesHour_135 rfl (pb_Tok.cons dX4_passesHour_136 rfl (pb_Tok.cons dX4_passesHour_139 rfl (pb_Tok.cons dX4_passesHour_141 rfl (pb_Tok.cons dX4_passesHour_142 rfl (pb_Tok.cons dX4_passesHour_143 rfl (pb_Tok.cons dX4_passesHour_144 rfl (pb_Tok.cons dX4_passesHour_145 rfl (pb_Tok.cons dX4_passesHour_146 rfl (pb_Tok.cons dX4_passesHour_149 rfl (pb_Tok.cons dX4_passesHour_150 rfl (pb_Tok.cons dX4_passesHour_153 rfl (pb_Tok.cons dX4_passesHour_155 rfl (pb_Tok.cons dX4_passesHour_156 rfl (pb_Tok.cons dX4_passesHour_157 rfl (pb_Tok.cons dX4_passesHour_158 rfl (pb_Tok.cons dX4_passesHour_159 rfl (pb_Tok.cons dX4_passesHour_160 rfl (pb_Tok.cons dX4_passesHour_161 rfl (pb_Tok.cons dX4_passesHour_164 rfl (pb_Tok.cons dX4_passesHour_165 rfl (pb_Tok.cons dX4_passesHour_168 rfl (pb_Tok.cons dX4_passesHour_171 rfl (pb_Tok.cons dX4_passesHour_174 rfl (pb_Tok.cons dX4_passesHour_177 rfl (pb_Tok.cons dX4_passesHour_178 rfl (pb_Tok.cons dX4_passesHour_179 rfl (pb_Tok.cons dX4_passesHour_180 rfl (pb_Tok.cons dX4_passesHour_181 rfl (pb_Tok.cons dX4_passesHour_184 rfl (pb_Tok.cons dX4_passesHour_185 rfl (pb_Tok.cons dX4_passesHour_186 rfl (pb_Tok.cons dX4_passesHour_189 rfl (pb_Tok.cons dX4_passesHour_190 rfl (pb_Tok.cons dX4_passesHour_191 rfl (pb_Tok.cons dX4_passesHour_194 rfl pb_Tok.nil)))))))))))))))))))))))))))))))))))))))))))))))))))))))))))
def tX4_passesHour_2 : pb_T := [(195, .if_icmp .ne 30, 198, 225), (198, .aload_n 0, 199, 0), (199, .iload_n 2, 200, 0), (200, .aload_n 0, 201, 0), (201, .iload_n 2, 202, 0), (202, .invokevirtual 117, 205, 0), (205, .invokevirtual 120, 208, 0), (208, .iconst (-1), 209, 0), (209, .if_icmp .ne 16, 212, 225), (212, .aload_n 0, 213, 0), (213, .getfield 9, 216, 0), (216, .iload_n 2, 217, 0), (217, .invokestatic 58, 220, 0), (220, .iconst 3, 221, 0), (221, .iastore, 222, 0), (222, .iinc 1 1, 225, 0), (225, .iinc 2 1, 228, 0), (228, .goto (-49), 231, 179), (231, .iload_n 1, 232, 0), (232, .ireturn, 233, 0)]
theorem tX4_passesHour_2_ok : pb_Tok cX4_passesHour tX4_passesHour_2 := pb_Tok.cons dX4_passesHour_195 rfl (pb_Tok.cons dX4_passesHour_198 rfl (pb_Tok.cons dX4_passesHour_199 rfl (pb_Tok.cons dX4_passesHour_200 rfl (pb_Tok.cons dX4_passesHour_201 rfl (pb_Tok.cons dX4_passesHour_202 rfl (pb_Tok.cons dX4_passesHour_205 rfl (pb_Tok.cons dX4_passesHour_208 rfl (pb_Tok.cons dX4_passesHour_209 rfl (pb_Tok.cons dX4_passesHour_212 rfl (pb_Tok.cons dX4_passesHour_213 rfl (pb_Tok.cons dX4_passesHour_216 rfl (pb_Tok.cons dX4_passesHour_217 rfl (pb_Tok.cons dX4_passesHour_220 rfl (pb_Tok.cons dX4_passesHour_221 rfl (pb_Tok.cons dX4_passesHour_222 rfl (pb_Tok.cons dX4_passesHour_225 rfl (pb_Tok.cons dX4_passesHour_228 rfl (pb_Tok.cons dX4_passesHour_231 rfl (pb_Tok.cons dX4_passesHour_232 rfl pb_Tok.nil)))))))))))))))))))
def tX4_passesHour : pb_T := tX4_passesHour_0 ++ (tX4_passesHour_1 ++ (tX4_passesHour_2))
theorem tX4_passesHour_ok : pb_Tok cX4_passesHour tX4_passesHour := pb_Tok.app tX4_passesHour_0_ok (pb_Tok.app tX4_passesHour_1_ok (tX4_passesHour_2_ok))
def tX4_setSlip : pb_T := [(0, .aload_n 0, 1, 0), (1, .invokevirtual 91, 4, 0), (4, .iload_n 1, 5, 0), (5, .i2l, 6, 0), (6, .lconst 0, 7, 0), (7, .ldc2_w 157, 10, 0), (10, .invokestatic 54, 13, 0), (13, .ifCond .eq 15, 16, 28), (16, .iload_n 2, 17, 0), (17, .i2l, 18, 0), (18, .lconst 0, 19, 0), (19, .ldc2_w 159, 22, 0), (22, .invokestatic 54, 25, 0), (25, .ifCond .ne 9, 28, 34), (28, .aload_n 0, 29, 0), (29, .iconst 1, 30, 0), (30, .invokevirtual 88, 33, 0), (33, .ireturn, 34, 0), (34, .aload_n 0, 35, 0), (35, .getfield 9, 38, 0), (38, .bipush 17, 40, 0), (40, .iload_n 1, 41, 0), (41, .iadd, 42, 0), (42, .iaload, 43, 0), (43, .istore_n 3, 44, 0), (44, .aload_n 0, 45, 0), (45, .getfield 9, 48, 0), (48, .bipush 17, 50, 0), (50, .iload_n 1, 51, 0), (51, .iadd, 52, 0), (52, .iload_n 2, 53, 0), (53, .iastore, 54, 0), (54, .aload_n 0, 55, 0), (55, .iload_n 3, 56, 0), (56, .invokevirtual 98, 59, 0), (59, .ireturn, 60, 0)]
theorem tX4_setSlip_ok : pb_Tok cX4_setSlip tX4_setSlip := pb_Tok.cons dX4_setSlip_0 rfl (pb_Tok.cons dX4_setSlip_1 rfl (pb_Tok.cons dX4_setSlip_4 rfl (pb_Tok.cons dX4_setSlip_5 rfl (pb_Tok.cons dX4_setSlip_6 rfl (pb_Tok.cons dX4_setSlip_7 rfl (pb_Tok.cons dX4_setSlip_10 rfl (pb_Tok.cons dX4_setSlip_13 rfl (pb_Tok.cons dX4_setSlip_16 rfl (pb_Tok.cons dX4_setSlip_17 rfl (pb_Tok.cons dX4_setSlip_18 rfl (pb_Tok.cons dX4_setSlip_19 rfl (pb_Tok.cons dX4_setSlip_22 rfl (pb_Tok.cons dX4_setSlip_25 rfl (pb_Tok.cons dX4_setSlip_28 rfl (pb_Tok.cons dX4_setSlip_29 rfl (pb_Tok.cons dX4_setSlip_30 rfl (pb_Tok.cons dX4_setSlip_33 rfl (pb_Tok.cons dX4_setSlip_34 rfl (pb_Tok.cons dX4_setSlip_35 rfl (pb_Tok.cons dX4_setSlip_38 rfl (pb_Tok.cons dX4_setSlip_40 rfl (pb_Tok.cons dX4_setSlip_41 rfl (pb_Tok.cons dX4_setSlip_42 rfl (pb_Tok.cons dX4_setSlip_43 rfl (pb_Tok.cons dX4_setSlip_44 rfl (pb_Tok.cons dX4_setSlip_45 rfl (pb_Tok.cons dX4_setSlip_48 rfl (pb_Tok.cons dX4_setSlip_50 rfl (pb_Tok.cons dX4_setSlip_51 rfl (pb_Tok.cons dX4_setSlip_52 rfl (pb_Tok.cons dX4_setSlip_53 rfl (pb_Tok.cons dX4_setSlip_54 rfl (pb_Tok.cons dX4_setSlip_55 rfl (pb_Tok.cons dX4_setSlip_56 rfl (pb_Tok.cons dX4_setSlip_59 rfl pb_Tok.nil)))))))))))))))))))))))))))))))))))
def tX4_addOrder : pb_T := [(0, .aload_n 0, 1, 0), (1, .invokevirtual 91, 4, 0), (4, .aload_n 0, 5, 0), (5, .aload_n 0, 6, 0), (6, .iload_n 1, 7, 0), (7, .iload_n 2, 8, 0), (8, .iload_n 3, 9, 0), (9, .invokevirtual 163, 12, 0), (12, .invokevirtual 98, 15, 0), (15, .ireturn, 16, 0)]
theorem tX4_addOrder_ok : pb_Tok cX4_addOrder tX4_addOrder := pb_Tok.cons dX4_addOrder_0 rfl (pb_Tok.cons dX4_addOrder_1 rfl (pb_Tok.cons dX4_addOrder_4 rfl (pb_Tok.cons dX4_addOrder_5 rfl (pb_Tok.cons dX4_addOrder_6 rfl (pb_Tok.cons dX4_addOrder_7 rfl (pb_Tok.cons dX4_addOrder_8 rfl (pb_Tok.cons dX4_addOrder_9 rfl (pb_Tok.cons dX4_addOrder_12 rfl (pb_Tok.cons dX4_addOrder_15 rfl pb_Tok.nil)))))))))
def tX4_orderIt_0 : pb_T := [(0, .iload_n 1, 1, 0), (1, .i2l, 2, 0), (2, .ldc2_w 161, 5, 0), (5, .ldc2_w 159, 8, 0), (8, .invokestatic 54, 11, 0), (11, .ifCond .eq 27, 14, 38), (14, .iload_n 2, 15, 0), (15, .i2l, 16, 0), (16, .lconst 0, 17, 0), (17, .ldc2_w 109, 20, 0), (20, .invokestatic 54, 23, 0), (23, .ifCond .eq 15, 26, 38), (26, .iload_n 3, 27, 0), (27, .i2l, 28, 0), (28, .lconst 1, 29, 0), (29, .ldc2_w 109, 32, 0), (32, .invokestatic 54, 35, 0), (35, .ifCond .ne 9, 38, 44), (38, .aload_n 0, 39, 0), (39, .iconst 1, 40, 0), (40, .invokevirtual 88, 43, 0), (43, .ireturn, 44, 0), (44, .aload_n 0, 45, 0), (45, .getfield 9, 48, 0), (48, .iconst 2, 49, 0), (49, .iaload, 50, 0), (50, .bipush 6, 52, 0), (52, .if_icmp .ne 9, 55, 61), (55, .aload_n 0, 56, 0), (56, .iconst 2, 57, 0), (57, .invokevirtual 88, 60, 0), (60, .ireturn, 61, 0), (61, .sipush 189, 64, 0), (64, .iconst 4, 65, 0), (65, .aload_n 0, 66, 0), (66, .getfield 9, 69, 0), (69, .iconst 2, 70, 0), (70, .iaload, 71, 0), (71, .imul, 72, 0), (72, .iadd, 73, 0), (73, .istore 4, 75, 0), (75, .aload_n 0, 76, 0), (76, .getfield 9, 79, 0), (79, .iload 4, 81, 0), (81, .aload_n 0, 82, 0), (82, .getfield 9, 85, 0), (85, .iconst 3, 86, 0), (86, .iaload, 87, 0), (87, .iastore, 88, 0), (88, .aload_n 0, 89, 0), (89, .getfield 9, 92, 0), (92, .iload 4, 94, 0), (94, .iconst 1, 95, 0), (95, .iadd, 96, 0), (96, .iload_n 1, 97, 0), (97, .iastore, 98, 0), (98, .aload_n 0, 99, 0), (99, .getfield 9, 102, 0), (102, .iload 4, 104, 0), (104, .iconst 2, 105, 0)]
theorem tX4_orderIt_0_ok : pb_Tok cX4_orderIt tX4_orderIt_0 := pb_Tok.cons dX4_orderIt_0 rfl (pb_Tok.cons dX4_orderIt_1 rfl (pb_Tok.cons dX4_orderIt_2 rfl (pb_Tok.cons dX4_orderIt_5 rfl (pb_Tok.cons dX4_orderIt_8 rfl (pb_Tok.cons dX4_orderIt_11 rfl (pb_Tok.cons dX4_orderIt_14 rfl (pb_Tok.cons dX4_orderIt_15 rfl (pb_Tok.cons dX4_orderIt_16 rfl (pb_Tok.cons dX4_orderIt_17 rfl (pb_Tok.cons dX4_orderIt_20 rfl (pb_Tok.cons dX4_orderIt_23 rfl (pb_Tok.cons dX4_orderIt_26 rfl (pb_Tok.cons dX4_orderIt_27 rfl (pb_Tok.cons dX4_orderIt_28 rfl (pb_Tok.cons dX4_orderIt_29 rfl (pb_Tok.cons dX4_orderIt_32 rfl (pb_Tok.cons dX4_orderIt_35 rfl (pb_Tok.cons dX4_orderIt_38 rfl (pb_Tok.cons dX4_orderIt_39 rfl (pb_Tok.cons dX4_orderIt_40 rfl (pb_Tok.cons dX4_orderIt_43 rfl (pb_Tok.cons dX4_orderIt_44 rfl (pb_Tok.cons dX4_orderIt_45 rfl (pb_Tok.cons dX4_orderIt_48 rfl (pb_Tok.cons dX4_orderIt_49 rfl (pb_Tok.cons dX4_orderIt_50 rfl (pb_Tok.cons dX4_orderIt_52 rfl (pb_Tok.cons dX4_orderIt_55 rfl (pb_Tok.cons dX4_orderIt_56 rfl (pb_Tok.cons dX4_orderIt_57 rfl (pb_Tok.cons dX4_orderIt_60 rfl (pb_Tok.cons dX4_orderIt_61 rfl (pb_Tok.cons dX4_orderIt_64 rfl (pb_Tok.cons dX4_orderIt_65 rfl (pb_Tok.cons dX4_orderIt_66 rfl (pb_Tok.cons dX4_orderIt_69 rfl (pb_Tok.cons dX4_orderIt_70 rfl (pb_Tok.cons dX4_orderIt_71 rfl (pb_Tok.cons dX4_orderIt_72 rfl (pb_Tok.cons dX4_orderIt_73 rfl (pb_Tok.cons dX4_orderIt_75 rfl (pb_Tok.cons dX4_orderIt_76 rfl (pb_Tok.cons dX4_orderIt_79 rfl (pb_Tok.cons dX4_orderIt_81 rfl (pb_Tok.cons dX4_orderIt_82 rfl (pb_Tok.cons dX4_orderIt_85 rfl (pb_Tok.cons dX4_orderIt_86 rfl (pb_Tok.cons dX4_orderIt_87 rfl (pb_Tok.cons dX4_orderIt_88 rfl (pb_Tok.cons dX4_orderIt_89 rfl (pb_Tok.cons dX4_orderIt_92 rfl (pb_Tok.cons dX4_orderIt_94 rfl (pb_Tok.cons dX4_orderIt_95 rfl (pb_Tok.cons dX4_orderIt_96 rfl (pb_Tok.cons dX4_orderIt_97 rfl (pb_Tok.cons dX4_orderIt_98 rfl (pb_Tok.cons dX4_orderIt_99 rfl (pb_Tok.cons dX4_orderIt_102 rfl (pb_Tok.cons dX4_orderIt_104 rfl pb_Tok.nil)))))))))))))))))))))))))))))))))))))))))))))))))))))))))))
def tX4_orderIt_1 : pb_T := [(105, .iadd, 106, 0), (106, .iload_n 2, 107, 0), (107, .iastore, 108, 0), (108, .aload_n 0, 109, 0), (109, .getfield 9, 112, 0), (112, .iload 4, 114, 0), (114, .iconst 3, 115, 0), (115, .iadd, 116, 0), (116, .iload_n 3, 117, 0), (117, .iastore, 118, 0), (118, .aload_n 0, 119, 0), (119, .getfield 9, 122, 0), (122, .iconst 2, 123, 0), (123, .dup2, 124, 0), (124, .iaload, 125, 0), (125, .iconst 1, 126, 0), (126, .iadd, 127, 0), (127, .iastore, 128, 0), (128, .aload_n 0, 129, 0), (129, .getfield 9, 132, 0), (132, .iconst 3, 133, 0), (133, .dup2, 134, 0), (134, .iaload, 135, 0), (135, .iconst 1, 136, 0), (136, .iadd, 137, 0), (137, .iastore, 138, 0), (138, .aload_n 0, 139, 0), (139, .getfield 9, 142, 0), (142, .iload 4, 144, 0), (144, .iaload, 145, 0), (145, .ireturn, 146, 0)]
theorem tX4_orderIt_1_ok : pb_Tok cX4_orderIt tX4_orderIt_1 := pb_Tok.cons dX4_orderIt_105 rfl (pb_Tok.cons dX4_orderIt_106 rfl (pb_Tok.cons dX4_orderIt_107 rfl (pb_Tok.cons dX4_orderIt_108 rfl (pb_Tok.cons dX4_orderIt_109 rfl (pb_Tok.cons dX4_orderIt_112 rfl (pb_Tok.cons dX4_orderIt_114 rfl (pb_Tok.cons dX4_orderIt_115 rfl (pb_Tok.cons dX4_orderIt_116 rfl (pb_Tok.cons dX4_orderIt_117 rfl (pb_Tok.cons dX4_orderIt_118 rfl (pb_Tok.cons dX4_orderIt_119 rfl (pb_Tok.cons dX4_orderIt_122 rfl (pb_Tok.cons dX4_orderIt_123 rfl (pb_Tok.cons dX4_orderIt_124 rfl (pb_Tok.cons dX4_orderIt_125 rfl (pb_Tok.cons dX4_orderIt_126 rfl (pb_Tok.cons dX4_orderIt_127 rfl (pb_Tok.cons dX4_orderIt_128 rfl (pb_Tok.cons dX4_orderIt_129 rfl (pb_Tok.cons dX4_orderIt_132 rfl (pb_Tok.cons dX4_orderIt_133 rfl (pb_Tok.cons dX4_orderIt_134 rfl (pb_Tok.cons dX4_orderIt_135 rfl (pb_Tok.cons dX4_orderIt_136 rfl (pb_Tok.cons dX4_orderIt_137 rfl (pb_Tok.cons dX4_orderIt_138 rfl (pb_Tok.cons dX4_orderIt_139 rfl (pb_Tok.cons dX4_orderIt_142 rfl (pb_Tok.cons dX4_orderIt_144 rfl (pb_Tok.cons dX4_orderIt_145 rfl pb_Tok.nil))))))))))))))))))))))))))))))
def tX4_orderIt : pb_T := tX4_orderIt_0 ++ (tX4_orderIt_1)
theorem tX4_orderIt_ok : pb_Tok cX4_orderIt tX4_orderIt := pb_Tok.app tX4_orderIt_0_ok (tX4_orderIt_1_ok)
def tX4_deliver : pb_T := [(0, .aload_n 0, 1, 0), (1, .invokevirtual 91, 4, 0), (4, .aload_n 0, 5, 0), (5, .aload_n 0, 6, 0), (6, .iload_n 1, 7, 0), (7, .iload_n 2, 8, 0), (8, .invokevirtual 172, 11, 0), (11, .invokevirtual 98, 14, 0), (14, .ireturn, 15, 0)]
theorem tX4_deliver_ok : pb_Tok cX4_deliver tX4_deliver := pb_Tok.cons dX4_deliver_0 rfl (pb_Tok.cons dX4_deliver_1 rfl (pb_Tok.cons dX4_deliver_4 rfl (pb_Tok.cons dX4_deliver_5 rfl (pb_Tok.cons dX4_deliver_6 rfl (pb_Tok.cons dX4_deliver_7 rfl (pb_Tok.cons dX4_deliver_8 rfl (pb_Tok.cons dX4_deliver_11 rfl (pb_Tok.cons dX4_deliver_14 rfl pb_Tok.nil))))))))
def tX4_deliverIt_0 : pb_T := [(0, .aload_n 0, 1, 0), (1, .iload_n 1, 2, 0), (2, .invokevirtual 166, 5, 0), (5, .istore_n 3, 6, 0), (6, .iload_n 3, 7, 0), (7, .iconst (-1), 8, 0), (8, .if_icmp .ne 9, 11, 17), (11, .aload_n 0, 12, 0), (12, .iconst 1, 13, 0), (13, .invokevirtual 88, 16, 0), (16, .ireturn, 17, 0), (17, .aload_n 0, 18, 0), (18, .iload_n 2, 19, 0), (19, .invokevirtual 84, 22, 0), (22, .ifCond .ne 9, 25, 31), (25, .aload_n 0, 26, 0), (26, .iconst 2, 27, 0), (27, .invokevirtual 88, 30, 0), (30, .ireturn, 31, 0), (31, .aload_n 0, 32, 0), (32, .iload_n 2, 33, 0), (33, .invokevirtual 81, 36, 0), (36, .iconst 1, 37, 0), (37, .if_icmp .ne 25, 40, 62), (40, .aload_n 0, 41, 0), (41, .iload_n 2, 42, 0), (42, .invokevirtual 62, 45, 0), (45, .aload_n 0, 46, 0), (46, .getfield 9, 49, 0), (49, .sipush 189, 52, 0), (52, .iconst 4, 53, 0), (53, .iload_n 3, 54, 0), (54, .imul, 55, 0), (55, .iadd, 56, 0), (56, .iconst 1, 57, 0), (57, .iadd, 58, 0), (58, .iaload, 59, 0), (59, .if_icmp .eq 9, 62, 68), (62, .aload_n 0, 63, 0), (63, .iconst 3, 64, 0), (64, .invokevirtual 88, 67, 0), (67, .ireturn, 68, 0), (68, .aload_n 0, 69, 0), (69, .iload_n 3, 70, 0), (70, .invokevirtual 169, 73, 0), (73, .istore 4, 75, 0), (75, .aload_n 0, 76, 0), (76, .getfield 9, 79, 0), (79, .iconst 4, 80, 0), (80, .dup2, 81, 0), (81, .iaload, 82, 0), (82, .iload 4, 84, 0), (84, .iadd, 85, 0), (85, .iastore, 86, 0), (86, .aload_n 0, 87, 0), (87, .getfield 9, 90, 0), (90, .iload_n 2, 91, 0), (91, .invokestatic 58, 94, 0), (94, .iconst 2, 95, 0), (95, .iastore, 96, 0)]
theorem tX4_deliverIt_0_ok : pb_Tok cX4_deliverIt tX4_deliverIt_0 := pb_Tok.cons dX4_deliverIt_0 rfl (pb_Tok.cons dX4_deliverIt_1 rfl (pb_Tok.cons dX4_deliverIt_2 rfl (pb_Tok.cons dX4_deliverIt_5 rfl (pb_Tok.cons dX4_deliverIt_6 rfl (pb_Tok.cons dX4_deliverIt_7 rfl (pb_Tok.cons dX4_deliverIt_8 rfl (pb_Tok.cons dX4_deliverIt_11 rfl (pb_Tok.cons dX4_deliverIt_12 rfl (pb_Tok.cons dX4_deliverIt_13 rfl (pb_Tok.cons dX4_deliverIt_16 rfl (pb_Tok.cons dX4_deliverIt_17 rfl (pb_Tok.cons dX4_deliverIt_18 rfl (pb_Tok.cons dX4_deliverIt_19 rfl (pb_Tok.cons dX4_deliverIt_22 rfl (pb_Tok.cons dX4_deliverIt_25 rfl (pb_Tok.cons dX4_deliverIt_26 rfl (pb_Tok.cons dX4_deliverIt_27 rfl (pb_Tok.cons dX4_deliverIt_30 rfl (pb_Tok.cons dX4_deliverIt_31 rfl (pb_Tok.cons dX4_deliverIt_32 rfl (pb_Tok.cons dX4_deliverIt_33 rfl (pb_Tok.cons dX4_deliverIt_36 rfl (pb_Tok.cons dX4_deliverIt_37 rfl (pb_Tok.cons dX4_deliverIt_40 rfl (pb_Tok.cons dX4_deliverIt_41 rfl (pb_Tok.cons dX4_deliverIt_42 rfl (pb_Tok.cons dX4_deliverIt_45 rfl (pb_Tok.cons dX4_deliverIt_46 rfl (pb_Tok.cons dX4_deliverIt_49 rfl (pb_Tok.cons dX4_deliverIt_52 rfl (pb_Tok.cons dX4_deliverIt_53 rfl (pb_Tok.cons dX4_deliverIt_54 rfl (pb_Tok.cons dX4_deliverIt_55 rfl (pb_Tok.cons dX4_deliverIt_56 rfl (pb_Tok.cons dX4_deliverIt_57 rfl (pb_Tok.cons dX4_deliverIt_58 rfl (pb_Tok.cons dX4_deliverIt_59 rfl (pb_Tok.cons dX4_deliverIt_62 rfl (pb_Tok.cons dX4_deliverIt_63 rfl (pb_Tok.cons dX4_deliverIt_64 rfl (pb_Tok.cons dX4_deliverIt_67 rfl (pb_Tok.cons dX4_deliverIt_68 rfl (pb_Tok.cons dX4_deliverIt_69 rfl (pb_Tok.cons dX4_deliverIt_70 rfl (pb_Tok.cons dX4_deliverIt_73 rfl (pb_Tok.cons dX4_deliverIt_75 rfl (pb_Tok.cons dX4_deliverIt_76 rfl (pb_Tok.cons dX4_deliverIt_79 rfl (pb_Tok.cons dX4_deliverIt_80 rfl (pb_Tok.cons dX4_deliverIt_81 rfl (pb_Tok.cons dX4_deliverIt_82 rfl (pb_Tok.cons dX4_deliverIt_84 rfl (pb_Tok.cons dX4_deliverIt_85 rfl (pb_Tok.cons dX4_deliverIt_86 rfl (pb_Tok.cons dX4_deliverIt_87 rfl (pb_Tok.cons dX4_deliverIt_90 rfl (pb_Tok.cons dX4_deliverIt_91 rfl (pb_Tok.cons dX4_deliverIt_94 rfl (pb_Tok.cons dX4_deliverIt_95 rfl pb_Tok.nil)))))))))))))))))))))))))))))))))))))))))))))))))))))))))))
def tX4_deliverIt_1 : pb_T := [(96, .sipush 189, 99, 0), (99, .iconst 4, 100, 0), (100, .iload_n 3, 101, 0), (101, .imul, 102, 0), (102, .iadd, 103, 0), (103, .istore 5, 105, 0), (105, .iload 5, 107, 1), (107, .sipush 209, 110, 0), (110, .if_icmp .ge 25, 113, 135), (113, .aload_n 0, 114, 0), (114, .getfield 9, 117, 0), (117, .iload 5, 119, 0), (119, .aload_n 0, 120, 0), (120, .getfield 9, 123, 0), (123, .iload 5, 125, 0), (125, .iconst 4, 126, 0), (126, .iadd, 127, 0), (127, .iaload, 128, 0), (128, .iastore, 129, 0), (129, .iinc 5 1, 132, 0), (132, .goto (-27), 135, 105), (135, .sipush 209, 138, 0), (138, .istore 5, 140, 0), (140, .iload 5, 142, 1), (142, .sipush 213, 145, 0), (145, .if_icmp .ge 17, 148, 162), (148, .aload_n 0, 149, 0), (149, .getfield 9, 152, 0), (152, .iload 5, 154, 0), (154, .iconst 0, 155, 0), (155, .iastore, 156, 0), (156, .iinc 5 1, 159, 0), (159, .goto (-19), 162, 140), (162, .aload_n 0, 163, 0), (163, .getfield 9, 166, 0), (166, .iconst 2, 167, 0), (167, .dup2, 168, 0), (168, .iaload, 169, 0), (169, .iconst 1, 170, 0), (170, .isub, 171, 0), (171, .iastore, 172, 0), (172, .iload 4, 174, 0), (174, .ireturn, 175, 0)]
theorem tX4_deliverIt_1_ok : pb_Tok cX4_deliverIt tX4_deliverIt_1 := pb_Tok.cons dX4_deliverIt_96 rfl (pb_Tok.cons dX4_deliverIt_99 rfl (pb_Tok.cons dX4_deliverIt_100 rfl (pb_Tok.cons dX4_deliverIt_101 rfl (pb_Tok.cons dX4_deliverIt_102 rfl (pb_Tok.cons dX4_deliverIt_103 rfl (pb_Tok.cons dX4_deliverIt_105 rfl (pb_Tok.cons dX4_deliverIt_107 rfl (pb_Tok.cons dX4_deliverIt_110 rfl (pb_Tok.cons dX4_deliverIt_113 rfl (pb_Tok.cons dX4_deliverIt_114 rfl (pb_Tok.cons dX4_deliverIt_117 rfl (pb_Tok.cons dX4_deliverIt_119 rfl (pb_Tok.cons dX4_deliverIt_120 rfl (pb_Tok.cons dX4_deliverIt_123 rfl (pb_Tok.cons dX4_deliverIt_125 rfl (pb_Tok.cons dX4_deliverIt_126 rfl (pb_Tok.cons dX4_deliverIt_127 rfl (pb_Tok.cons dX4_deliverIt_128 rfl (pb_Tok.cons dX4_deliverIt_129 rfl (pb_Tok.cons dX4_deliverIt_132 rfl (pb_Tok.cons dX4_deliverIt_135 rfl (pb_Tok.cons dX4_deliverIt_138 rfl (pb_Tok.cons dX4_deliverIt_140 rfl (pb_Tok.cons dX4_deliverIt_142 rfl (pb_Tok.cons dX4_deliverIt_145 rfl (pb_Tok.cons dX4_deliverIt_148 rfl (pb_Tok.cons dX4_deliverIt_149 rfl (pb_Tok.cons dX4_deliverIt_152 rfl (pb_Tok.cons dX4_deliverIt_154 rfl (pb_Tok.cons dX4_deliverIt_155 rfl (pb_Tok.cons dX4_deliverIt_156 rfl (pb_Tok.cons dX4_deliverIt_159 rfl (pb_Tok.cons dX4_deliverIt_162 rfl (pb_Tok.cons dX4_deliverIt_163 rfl (pb_Tok.cons dX4_deliverIt_166 rfl (pb_Tok.cons dX4_deliverIt_167 rfl (pb_Tok.cons dX4_deliverIt_168 rfl (pb_Tok.cons dX4_deliverIt_169 rfl (pb_Tok.cons dX4_deliverIt_170 rfl (pb_Tok.cons dX4_deliverIt_171 rfl (pb_Tok.cons dX4_deliverIt_172 rfl (pb_Tok.cons dX4_deliverIt_174 rfl pb_Tok.nil))))))))))))))))))))))))))))))))))))))))))
def tX4_deliverIt : pb_T := tX4_deliverIt_0 ++ (tX4_deliverIt_1)
theorem tX4_deliverIt_ok : pb_Tok cX4_deliverIt tX4_deliverIt := pb_Tok.app tX4_deliverIt_0_ok (tX4_deliverIt_1_ok)
def tX4_find : pb_T := [(0, .iconst 0, 1, 0), (1, .istore_n 2, 2, 0), (2, .iload_n 2, 3, 1), (3, .aload_n 0, 4, 0), (4, .getfield 9, 7, 0), (7, .iconst 2, 8, 0), (8, .iaload, 9, 0), (9, .if_icmp .ge 27, 12, 36), (12, .aload_n 0, 13, 0), (13, .getfield 9, 16, 0), (16, .sipush 189, 19, 0), (19, .iconst 4, 20, 0), (20, .iload_n 2, 21, 0), (21, .imul, 22, 0), (22, .iadd, 23, 0), (23, .iaload, 24, 0), (24, .iload_n 1, 25, 0), (25, .if_icmp .ne 5, 28, 30), (28, .iload_n 2, 29, 0), (29, .ireturn, 30, 0), (30, .iinc 2 1, 33, 0), (33, .goto (-31), 36, 2), (36, .iconst (-1), 37, 0), (37, .ireturn, 38, 0)]
theorem tX4_find_ok : pb_Tok cX4_find tX4_find := pb_Tok.cons dX4_find_0 rfl (pb_Tok.cons dX4_find_1 rfl (pb_Tok.cons dX4_find_2 rfl (pb_Tok.cons dX4_find_3 rfl (pb_Tok.cons dX4_find_4 rfl (pb_Tok.cons dX4_find_7 rfl (pb_Tok.cons dX4_find_8 rfl (pb_Tok.cons dX4_find_9 rfl (pb_Tok.cons dX4_find_12 rfl (pb_Tok.cons dX4_find_13 rfl (pb_Tok.cons dX4_find_16 rfl (pb_Tok.cons dX4_find_19 rfl (pb_Tok.cons dX4_find_20 rfl (pb_Tok.cons dX4_find_21 rfl (pb_Tok.cons dX4_find_22 rfl (pb_Tok.cons dX4_find_23 rfl (pb_Tok.cons dX4_find_24 rfl (pb_Tok.cons dX4_find_25 rfl (pb_Tok.cons dX4_find_28 rfl (pb_Tok.cons dX4_find_29 rfl (pb_Tok.cons dX4_find_30 rfl (pb_Tok.cons dX4_find_33 rfl (pb_Tok.cons dX4_find_36 rfl (pb_Tok.cons dX4_find_37 rfl pb_Tok.nil)))))))))))))))))))))))
def tX4_coins : pb_T := [(0, .sipush 189, 3, 0), (3, .iconst 4, 4, 0), (4, .iload_n 1, 5, 0), (5, .imul, 6, 0), (6, .iadd, 7, 0), (7, .istore_n 2, 8, 0), (8, .iconst 0, 9, 0), (9, .aload_n 0, 10, 0), (10, .getfield 9, 13, 0), (13, .iload_n 2, 14, 0), (14, .iconst 3, 15, 0), (15, .iadd, 16, 0), (16, .iaload, 17, 0), (17, .iconst 0, 18, 0), (18, .aload_n 0, 19, 0), (19, .getfield 9, 22, 0), (22, .iconst 1, 23, 0), (23, .iaload, 24, 0), (24, .aload_n 0, 25, 0), (25, .getfield 9, 28, 0), (28, .iload_n 2, 29, 0), (29, .iconst 2, 30, 0), (30, .iadd, 31, 0), (31, .iaload, 32, 0), (32, .isub, 33, 0), (33, .invokestatic 65, 36, 0), (36, .isub, 37, 0), (37, .invokestatic 65, 40, 0), (40, .ireturn, 41, 0)]
theorem tX4_coins_ok : pb_Tok cX4_coins tX4_coins := pb_Tok.cons dX4_coins_0 rfl (pb_Tok.cons dX4_coins_3 rfl (pb_Tok.cons dX4_coins_4 rfl (pb_Tok.cons dX4_coins_5 rfl (pb_Tok.cons dX4_coins_6 rfl (pb_Tok.cons dX4_coins_7 rfl (pb_Tok.cons dX4_coins_8 rfl (pb_Tok.cons dX4_coins_9 rfl (pb_Tok.cons dX4_coins_10 rfl (pb_Tok.cons dX4_coins_13 rfl (pb_Tok.cons dX4_coins_14 rfl (pb_Tok.cons dX4_coins_15 rfl (pb_Tok.cons dX4_coins_16 rfl (pb_Tok.cons dX4_coins_17 rfl (pb_Tok.cons dX4_coins_18 rfl (pb_Tok.cons dX4_coins_19 rfl (pb_Tok.cons dX4_coins_22 rfl (pb_Tok.cons dX4_coins_23 rfl (pb_Tok.cons dX4_coins_24 rfl (pb_Tok.cons dX4_coins_25 rfl (pb_Tok.cons dX4_coins_28 rfl (pb_Tok.cons dX4_coins_29 rfl (pb_Tok.cons dX4_coins_30 rfl (pb_Tok.cons dX4_coins_31 rfl (pb_Tok.cons dX4_coins_32 rfl (pb_Tok.cons dX4_coins_33 rfl (pb_Tok.cons dX4_coins_36 rfl (pb_Tok.cons dX4_coins_37 rfl (pb_Tok.cons dX4_coins_40 rfl pb_Tok.nil))))))))))))))))))))))))))))
def tX4_hullCount : pb_T := [(0, .aload_n 0, 1, 0), (1, .iconst 0, 2, 0), (2, .putfield 48, 5, 0), (5, .aload_n 0, 6, 0), (6, .getfield 9, 9, 0), (9, .iconst 0, 10, 0), (10, .iaload, 11, 0), (11, .ireturn, 12, 0)]
theorem tX4_hullCount_ok : pb_Tok cX4_hullCount tX4_hullCount := pb_Tok.cons dX4_hullCount_0 rfl (pb_Tok.cons dX4_hullCount_1 rfl (pb_Tok.cons dX4_hullCount_2 rfl (pb_Tok.cons dX4_hullCount_5 rfl (pb_Tok.cons dX4_hullCount_6 rfl (pb_Tok.cons dX4_hullCount_9 rfl (pb_Tok.cons dX4_hullCount_10 rfl (pb_Tok.cons dX4_hullCount_11 rfl pb_Tok.nil)))))))
def tX4_stateOf : pb_T := [(0, .aload_n 0, 1, 0), (1, .iload_n 1, 2, 0), (2, .iconst 0, 3, 0), (3, .invokevirtual 175, 6, 0), (6, .ireturn, 7, 0)]
theorem tX4_stateOf_ok : pb_Tok cX4_stateOf tX4_stateOf := pb_Tok.cons dX4_stateOf_0 rfl (pb_Tok.cons dX4_stateOf_1 rfl (pb_Tok.cons dX4_stateOf_2 rfl (pb_Tok.cons dX4_stateOf_3 rfl (pb_Tok.cons dX4_stateOf_6 rfl pb_Tok.nil))))
def tX4_ofHull : pb_T := [(0, .aload_n 0, 1, 0), (1, .iconst 0, 2, 0), (2, .putfield 48, 5, 0), (5, .aload_n 0, 6, 0), (6, .iload_n 1, 7, 0), (7, .invokevirtual 84, 10, 0), (10, .ifCond .eq 17, 13, 27), (13, .aload_n 0, 14, 0), (14, .getfield 9, 17, 0), (17, .iload_n 1, 18, 0), (18, .invokestatic 58, 21, 0), (21, .iload_n 2, 22, 0), (22, .iadd, 23, 0), (23, .iaload, 24, 0), (24, .goto 8, 27, 32), (27, .aload_n 0, 28, 0), (28, .iconst 1, 29, 0), (29, .invokevirtual 88, 32, 0), (32, .ireturn, 33, 0)]
theorem tX4_ofHull_ok : pb_Tok cX4_ofHull tX4_ofHull := pb_Tok.cons dX4_ofHull_0 rfl (pb_Tok.cons dX4_ofHull_1 rfl (pb_Tok.cons dX4_ofHull_2 rfl (pb_Tok.cons dX4_ofHull_5 rfl (pb_Tok.cons dX4_ofHull_6 rfl (pb_Tok.cons dX4_ofHull_7 rfl (pb_Tok.cons dX4_ofHull_10 rfl (pb_Tok.cons dX4_ofHull_13 rfl (pb_Tok.cons dX4_ofHull_14 rfl (pb_Tok.cons dX4_ofHull_17 rfl (pb_Tok.cons dX4_ofHull_18 rfl (pb_Tok.cons dX4_ofHull_21 rfl (pb_Tok.cons dX4_ofHull_22 rfl (pb_Tok.cons dX4_ofHull_23 rfl (pb_Tok.cons dX4_ofHull_24 rfl (pb_Tok.cons dX4_ofHull_27 rfl (pb_Tok.cons dX4_ofHull_28 rfl (pb_Tok.cons dX4_ofHull_29 rfl (pb_Tok.cons dX4_ofHull_32 rfl pb_Tok.nil))))))))))))))))))
def tX4_frameCount : pb_T := [(0, .aload_n 0, 1, 0), (1, .iload_n 1, 2, 0), (2, .iconst 1, 3, 0), (3, .invokevirtual 175, 6, 0), (6, .ireturn, 7, 0)]
theorem tX4_frameCount_ok : pb_Tok cX4_frameCount tX4_frameCount := pb_Tok.cons dX4_frameCount_0 rfl (pb_Tok.cons dX4_frameCount_1 rfl (pb_Tok.cons dX4_frameCount_2 rfl (pb_Tok.cons dX4_frameCount_3 rfl (pb_Tok.cons dX4_frameCount_6 rfl pb_Tok.nil))))
def tX4_widthOf : pb_T := [(0, .aload_n 0, 1, 0), (1, .iconst 0, 2, 0), (2, .putfield 48, 5, 0), (5, .aload_n 0, 6, 0), (6, .iload_n 1, 7, 0), (7, .invokevirtual 84, 10, 0), (10, .ifCond .eq 24, 13, 34), (13, .iload_n 2, 14, 0), (14, .i2l, 15, 0), (15, .lconst 0, 16, 0), (16, .aload_n 0, 17, 0), (17, .iload_n 1, 18, 0), (18, .invokevirtual 62, 21, 0), (21, .iconst 1, 22, 0), (22, .isub, 23, 0), (23, .i2l, 24, 0), (24, .invokestatic 54, 27, 0), (27, .ifCond .eq 7, 30, 34), (30, .iconst 1, 31, 0), (31, .goto 4, 34, 35), (34, .iconst 0, 35, 0), (35, .istore 4, 37, 0), (37, .iload 4, 39, 0), (39, .ifCond .eq 21, 42, 60), (42, .aload_n 0, 43, 0), (43, .iload_n 1, 44, 0), (44, .iload_n 2, 45, 0), (45, .iload_n 3, 46, 0), (46, .ifCond .eq 7, 49, 53), (49, .iconst 0, 50, 0), (50, .goto 4, 53, 54), (53, .iconst 1, 54, 0), (54, .invokevirtual 71, 57, 0), (57, .goto 8, 60, 65), (60, .aload_n 0, 61, 0), (61, .iconst 1, 62, 0), (62, .invokevirtual 88, 65, 0), (65, .ireturn, 66, 0)]
theorem tX4_widthOf_ok : pb_Tok cX4_widthOf tX4_widthOf := pb_Tok.cons dX4_widthOf_0 rfl (pb_Tok.cons dX4_widthOf_1 rfl (pb_Tok.cons dX4_widthOf_2 rfl (pb_Tok.cons dX4_widthOf_5 rfl (pb_Tok.cons dX4_widthOf_6 rfl (pb_Tok.cons dX4_widthOf_7 rfl (pb_Tok.cons dX4_widthOf_10 rfl (pb_Tok.cons dX4_widthOf_13 rfl (pb_Tok.cons dX4_widthOf_14 rfl (pb_Tok.cons dX4_widthOf_15 rfl (pb_Tok.cons dX4_widthOf_16 rfl (pb_Tok.cons dX4_widthOf_17 rfl (pb_Tok.cons dX4_widthOf_18 rfl (pb_Tok.cons dX4_widthOf_21 rfl (pb_Tok.cons dX4_widthOf_22 rfl (pb_Tok.cons dX4_widthOf_23 rfl (pb_Tok.cons dX4_widthOf_24 rfl (pb_Tok.cons dX4_widthOf_27 rfl (pb_Tok.cons dX4_widthOf_30 rfl (pb_Tok.cons dX4_widthOf_31 rfl (pb_Tok.cons dX4_widthOf_34 rfl (pb_Tok.cons dX4_widthOf_35 rfl (pb_Tok.cons dX4_widthOf_37 rfl (pb_Tok.cons dX4_widthOf_39 rfl (pb_Tok.cons dX4_widthOf_42 rfl (pb_Tok.cons dX4_widthOf_43 rfl (pb_Tok.cons dX4_widthOf_44 rfl (pb_Tok.cons dX4_widthOf_45 rfl (pb_Tok.cons dX4_widthOf_46 rfl (pb_Tok.cons dX4_widthOf_49 rfl (pb_Tok.cons dX4_widthOf_50 rfl (pb_Tok.cons dX4_widthOf_53 rfl (pb_Tok.cons dX4_widthOf_54 rfl (pb_Tok.cons dX4_widthOf_57 rfl (pb_Tok.cons dX4_widthOf_60 rfl (pb_Tok.cons dX4_widthOf_61 rfl (pb_Tok.cons dX4_widthOf_62 rfl (pb_Tok.cons dX4_widthOf_65 rfl pb_Tok.nil)))))))))))))))))))))))))))))))))))))
def tX4_caulkingOf : pb_T := [(0, .aload_n 0, 1, 0), (1, .iconst 0, 2, 0), (2, .putfield 48, 5, 0), (5, .aload_n 0, 6, 0), (6, .iload_n 1, 7, 0), (7, .iload_n 2, 8, 0), (8, .invokevirtual 132, 11, 0), (11, .ifCond .eq 20, 14, 31), (14, .aload_n 0, 15, 0), (15, .getfield 9, 18, 0), (18, .iload_n 1, 19, 0), (19, .invokestatic 58, 22, 0), (22, .bipush 20, 24, 0), (24, .iadd, 25, 0), (25, .iload_n 2, 26, 0), (26, .iadd, 27, 0), (27, .iaload, 28, 0), (28, .goto 8, 31, 36), (31, .aload_n 0, 32, 0), (32, .iconst 1, 33, 0), (33, .invokevirtual 88, 36, 0), (36, .ireturn, 37, 0)]
theorem tX4_caulkingOf_ok : pb_Tok cX4_caulkingOf tX4_caulkingOf := pb_Tok.cons dX4_caulkingOf_0 rfl (pb_Tok.cons dX4_caulkingOf_1 rfl (pb_Tok.cons dX4_caulkingOf_2 rfl (pb_Tok.cons dX4_caulkingOf_5 rfl (pb_Tok.cons dX4_caulkingOf_6 rfl (pb_Tok.cons dX4_caulkingOf_7 rfl (pb_Tok.cons dX4_caulkingOf_8 rfl (pb_Tok.cons dX4_caulkingOf_11 rfl (pb_Tok.cons dX4_caulkingOf_14 rfl (pb_Tok.cons dX4_caulkingOf_15 rfl (pb_Tok.cons dX4_caulkingOf_18 rfl (pb_Tok.cons dX4_caulkingOf_19 rfl (pb_Tok.cons dX4_caulkingOf_22 rfl (pb_Tok.cons dX4_caulkingOf_24 rfl (pb_Tok.cons dX4_caulkingOf_25 rfl (pb_Tok.cons dX4_caulkingOf_26 rfl (pb_Tok.cons dX4_caulkingOf_27 rfl (pb_Tok.cons dX4_caulkingOf_28 rfl (pb_Tok.cons dX4_caulkingOf_31 rfl (pb_Tok.cons dX4_caulkingOf_32 rfl (pb_Tok.cons dX4_caulkingOf_33 rfl (pb_Tok.cons dX4_caulkingOf_36 rfl pb_Tok.nil)))))))))))))))))))))
def tX4_waterIn : pb_T := [(0, .aload_n 0, 1, 0), (1, .iload_n 1, 2, 0), (2, .iconst 3, 3, 0), (3, .invokevirtual 175, 6, 0), (6, .ireturn, 7, 0)]
theorem tX4_waterIn_ok : pb_Tok cX4_waterIn tX4_waterIn := pb_Tok.cons dX4_waterIn_0 rfl (pb_Tok.cons dX4_waterIn_1 rfl (pb_Tok.cons dX4_waterIn_2 rfl (pb_Tok.cons dX4_waterIn_3 rfl (pb_Tok.cons dX4_waterIn_6 rfl pb_Tok.nil))))
def tX4_weightOf : pb_T := [(0, .aload_n 0, 1, 0), (1, .iconst 0, 2, 0), (2, .putfield 48, 5, 0), (5, .aload_n 0, 6, 0), (6, .iload_n 1, 7, 0), (7, .invokevirtual 84, 10, 0), (10, .ifCond .eq 11, 13, 21), (13, .aload_n 0, 14, 0), (14, .iload_n 1, 15, 0), (15, .invokevirtual 117, 18, 0), (18, .goto 8, 21, 26), (21, .aload_n 0, 22, 0), (22, .iconst 1, 23, 0), (23, .invokevirtual 88, 26, 0), (26, .ireturn, 27, 0)]
theorem tX4_weightOf_ok : pb_Tok cX4_weightOf tX4_weightOf := pb_Tok.cons dX4_weightOf_0 rfl (pb_Tok.cons dX4_weightOf_1 rfl (pb_Tok.cons dX4_weightOf_2 rfl (pb_Tok.cons dX4_weightOf_5 rfl (pb_Tok.cons dX4_weightOf_6 rfl (pb_Tok.cons dX4_weightOf_7 rfl (pb_Tok.cons dX4_weightOf_10 rfl (pb_Tok.cons dX4_weightOf_13 rfl (pb_Tok.cons dX4_weightOf_14 rfl (pb_Tok.cons dX4_weightOf_15 rfl (pb_Tok.cons dX4_weightOf_18 rfl (pb_Tok.cons dX4_weightOf_21 rfl (pb_Tok.cons dX4_weightOf_22 rfl (pb_Tok.cons dX4_weightOf_23 rfl (pb_Tok.cons dX4_weightOf_26 rfl pb_Tok.nil))))))))))))))
def tX4_draughtOf : pb_T := [(0, .aload_n 0, 1, 0), (1, .iconst 0, 2, 0), (2, .putfield 48, 5, 0), (5, .aload_n 0, 6, 0), (6, .iload_n 1, 7, 0), (7, .invokevirtual 84, 10, 0), (10, .ifCond .ne 9, 13, 19), (13, .aload_n 0, 14, 0), (14, .iconst 1, 15, 0), (15, .invokevirtual 88, 18, 0), (18, .ireturn, 19, 0), (19, .aload_n 0, 20, 0), (20, .iload_n 1, 21, 0), (21, .aload_n 0, 22, 0), (22, .iload_n 1, 23, 0), (23, .invokevirtual 117, 26, 0), (26, .invokevirtual 120, 29, 0), (29, .istore_n 2, 30, 0), (30, .iload_n 2, 31, 0), (31, .iconst (-1), 32, 0), (32, .if_icmp .ne 11, 35, 43), (35, .aload_n 0, 36, 0), (36, .iconst 2, 37, 0), (37, .invokevirtual 88, 40, 0), (40, .goto 4, 43, 44), (43, .iload_n 2, 44, 0), (44, .ireturn, 45, 0)]
theorem tX4_draughtOf_ok : pb_Tok cX4_draughtOf tX4_draughtOf := pb_Tok.cons dX4_draughtOf_0 rfl (pb_Tok.cons dX4_draughtOf_1 rfl (pb_Tok.cons dX4_draughtOf_2 rfl (pb_Tok.cons dX4_draughtOf_5 rfl (pb_Tok.cons dX4_draughtOf_6 rfl (pb_Tok.cons dX4_draughtOf_7 rfl (pb_Tok.cons dX4_draughtOf_10 rfl (pb_Tok.cons dX4_draughtOf_13 rfl (pb_Tok.cons dX4_draughtOf_14 rfl (pb_Tok.cons dX4_draughtOf_15 rfl (pb_Tok.cons dX4_draughtOf_18 rfl (pb_Tok.cons dX4_draughtOf_19 rfl (pb_Tok.cons dX4_draughtOf_20 rfl (pb_Tok.cons dX4_draughtOf_21 rfl (pb_Tok.cons dX4_draughtOf_22 rfl (pb_Tok.cons dX4_draughtOf_23 rfl (pb_Tok.cons dX4_draughtOf_26 rfl (pb_Tok.cons dX4_draughtOf_29 rfl (pb_Tok.cons dX4_draughtOf_30 rfl (pb_Tok.cons dX4_draughtOf_31 rfl (pb_Tok.cons dX4_draughtOf_32 rfl (pb_Tok.cons dX4_draughtOf_35 rfl (pb_Tok.cons dX4_draughtOf_36 rfl (pb_Tok.cons dX4_draughtOf_37 rfl (pb_Tok.cons dX4_draughtOf_40 rfl (pb_Tok.cons dX4_draughtOf_43 rfl (pb_Tok.cons dX4_draughtOf_44 rfl pb_Tok.nil))))))))))))))))))))))))))
def tX4_draughtByHalving : pb_T := [(0, .aload_n 0, 1, 0), (1, .iload_n 1, 2, 0), (2, .invokevirtual 178, 5, 0), (5, .ireturn, 6, 0)]
theorem tX4_draughtByHalving_ok : pb_Tok cX4_draughtByHalving tX4_draughtByHalving := pb_Tok.cons dX4_draughtByHalving_0 rfl (pb_Tok.cons dX4_draughtByHalving_1 rfl (pb_Tok.cons dX4_draughtByHalving_2 rfl (pb_Tok.cons dX4_draughtByHalving_5 rfl pb_Tok.nil)))
def tX4_heelOf : pb_T := [(0, .aload_n 0, 1, 0), (1, .iconst 0, 2, 0), (2, .putfield 48, 5, 0), (5, .aload_n 0, 6, 0), (6, .iload_n 1, 7, 0), (7, .invokevirtual 84, 10, 0), (10, .ifCond .ne 9, 13, 19), (13, .aload_n 0, 14, 0), (14, .iconst 1, 15, 0), (15, .invokevirtual 88, 18, 0), (18, .ireturn, 19, 0), (19, .iconst 0, 20, 0), (20, .istore_n 2, 21, 0), (21, .iconst 0, 22, 0), (22, .istore_n 3, 23, 0), (23, .iload_n 3, 24, 1), (24, .aload_n 0, 25, 0), (25, .iload_n 1, 26, 0), (26, .invokevirtual 62, 29, 0), (29, .if_icmp .ge 27, 32, 56), (32, .iload_n 2, 33, 0), (33, .aload_n 0, 34, 0), (34, .iload_n 1, 35, 0), (35, .iload_n 3, 36, 0), (36, .iconst 0, 37, 0), (37, .invokevirtual 71, 40, 0), (40, .aload_n 0, 41, 0), (41, .iload_n 1, 42, 0), (42, .iload_n 3, 43, 0), (43, .iconst 1, 44, 0), (44, .invokevirtual 71, 47, 0), (47, .isub, 48, 0), (48, .iadd, 49, 0), (49, .istore_n 2, 50, 0), (50, .iinc 3 1, 53, 0), (53, .goto (-30), 56, 23), (56, .iload_n 2, 57, 0), (57, .ireturn, 58, 0)]
theorem tX4_heelOf_ok : pb_Tok cX4_heelOf tX4_heelOf := pb_Tok.cons dX4_heelOf_0 rfl (pb_Tok.cons dX4_heelOf_1 rfl (pb_Tok.cons dX4_heelOf_2 rfl (pb_Tok.cons dX4_heelOf_5 rfl (pb_Tok.cons dX4_heelOf_6 rfl (pb_Tok.cons dX4_heelOf_7 rfl (pb_Tok.cons dX4_heelOf_10 rfl (pb_Tok.cons dX4_heelOf_13 rfl (pb_Tok.cons dX4_heelOf_14 rfl (pb_Tok.cons dX4_heelOf_15 rfl (pb_Tok.cons dX4_heelOf_18 rfl (pb_Tok.cons dX4_heelOf_19 rfl (pb_Tok.cons dX4_heelOf_20 rfl (pb_Tok.cons dX4_heelOf_21 rfl (pb_Tok.cons dX4_heelOf_22 rfl (pb_Tok.cons dX4_heelOf_23 rfl (pb_Tok.cons dX4_heelOf_24 rfl (pb_Tok.cons dX4_heelOf_25 rfl (pb_Tok.cons dX4_heelOf_26 rfl (pb_Tok.cons dX4_heelOf_29 rfl (pb_Tok.cons dX4_heelOf_32 rfl (pb_Tok.cons dX4_heelOf_33 rfl (pb_Tok.cons dX4_heelOf_34 rfl (pb_Tok.cons dX4_heelOf_35 rfl (pb_Tok.cons dX4_heelOf_36 rfl (pb_Tok.cons dX4_heelOf_37 rfl (pb_Tok.cons dX4_heelOf_40 rfl (pb_Tok.cons dX4_heelOf_41 rfl (pb_Tok.cons dX4_heelOf_42 rfl (pb_Tok.cons dX4_heelOf_43 rfl (pb_Tok.cons dX4_heelOf_44 rfl (pb_Tok.cons dX4_heelOf_47 rfl (pb_Tok.cons dX4_heelOf_48 rfl (pb_Tok.cons dX4_heelOf_49 rfl (pb_Tok.cons dX4_heelOf_50 rfl (pb_Tok.cons dX4_heelOf_53 rfl (pb_Tok.cons dX4_heelOf_56 rfl (pb_Tok.cons dX4_heelOf_57 rfl pb_Tok.nil)))))))))))))))))))))))))))))))))))))
def tX4_hullAtRank : pb_T := [(0, .aload_n 0, 1, 0), (1, .iconst 0, 2, 0), (2, .putfield 48, 5, 0), (5, .iconst 0, 6, 0), (6, .istore_n 2, 7, 0), (7, .iload_n 2, 8, 1), (8, .aload_n 0, 9, 0), (9, .getfield 9, 12, 0), (12, .iconst 0, 13, 0), (13, .iaload, 14, 0), (14, .if_icmp .ge 76, 17, 90), (17, .iconst 0, 18, 0), (18, .istore_n 3, 19, 0), (19, .iconst 0, 20, 0), (20, .istore 4, 22, 0), (22, .iload 4, 24, 1), (24, .aload_n 0, 25, 0), (25, .getfield 9, 28, 0), (28, .iconst 0, 29, 0), (29, .iaload, 30, 0), (30, .if_icmp .ge 47, 33, 77), (33, .aload_n 0, 34, 0), (34, .iload_n 2, 35, 0), (35, .invokevirtual 117, 38, 0), (38, .aload_n 0, 39, 0), (39, .iload 4, 41, 0), (41, .invokevirtual 117, 44, 0), (44, .isub, 45, 0), (45, .istore 5, 47, 0), (47, .iload_n 3, 48, 0), (48, .iload 5, 50, 0), (50, .ifCond .gt 14, 53, 64), (53, .iload 5, 55, 0), (55, .ifCond .ne 13, 58, 68), (58, .iload 4, 60, 0), (60, .iload_n 2, 61, 0), (61, .if_icmp .ge 7, 64, 68), (64, .iconst 1, 65, 0), (65, .goto 4, 68, 69), (68, .iconst 0, 69, 0), (69, .iadd, 70, 0), (70, .istore_n 3, 71, 0), (71, .iinc 4 1, 74, 0), (74, .goto (-52), 77, 22), (77, .iload_n 3, 78, 0), (78, .iload_n 1, 79, 0), (79, .if_icmp .ne 5, 82, 84), (82, .iload_n 2, 83, 0), (83, .ireturn, 84, 0), (84, .iinc 2 1, 87, 0), (87, .goto (-80), 90, 7), (90, .aload_n 0, 91, 0), (91, .iconst 1, 92, 0), (92, .invokevirtual 88, 95, 0), (95, .ireturn, 96, 0)]
theorem tX4_hullAtRank_ok : pb_Tok cX4_hullAtRank tX4_hullAtRank := pb_Tok.cons dX4_hullAtRank_0 rfl (pb_Tok.cons dX4_hullAtRank_1 rfl (pb_Tok.cons dX4_hullAtRank_2 rfl (pb_Tok.cons dX4_hullAtRank_5 rfl (pb_Tok.cons dX4_hullAtRank_6 rfl (pb_Tok.cons dX4_hullAtRank_7 rfl (pb_Tok.cons dX4_hullAtRank_8 rfl (pb_Tok.cons dX4_hullAtRank_9 rfl (pb_Tok.cons dX4_hullAtRank_12 rfl (pb_Tok.cons dX4_hullAtRank_13 rfl (pb_Tok.cons dX4_hullAtRank_14 rfl (pb_Tok.cons dX4_hullAtRank_17 rfl (pb_Tok.cons dX4_hullAtRank_18 rfl (pb_Tok.cons dX4_hullAtRank_19 rfl (pb_Tok.cons dX4_hullAtRank_20 rfl (pb_Tok.cons dX4_hullAtRank_22 rfl (pb_Tok.cons dX4_hullAtRank_24 rfl (pb_Tok.cons dX4_hullAtRank_25 rfl (pb_Tok.cons dX4_hullAtRank_28 rfl (pb_Tok.cons dX4_hullAtRank_29 rfl (pb_Tok.cons dX4_hullAtRank_30 rfl (pb_Tok.cons dX4_hullAtRank_33 rfl (pb_Tok.cons dX4_hullAtRank_34 rfl (pb_Tok.cons dX4_hullAtRank_35 rfl (pb_Tok.cons dX4_hullAtRank_38 rfl (pb_Tok.cons dX4_hullAtRank_39 rfl (pb_Tok.cons dX4_hullAtRank_41 rfl (pb_Tok.cons dX4_hullAtRank_44 rfl (pb_Tok.cons dX4_hullAtRank_45 rfl (pb_Tok.cons dX4_hullAtRank_47 rfl (pb_Tok.cons dX4_hullAtRank_48 rfl (pb_Tok.cons dX4_hullAtRank_50 rfl (pb_Tok.cons dX4_hullAtRank_53 rfl (pb_Tok.cons dX4_hullAtRank_55 rfl (pb_Tok.cons dX4_hullAtRank_58 rfl (pb_Tok.cons dX4_hullAtRank_60 rfl (pb_Tok.cons dX4_hullAtRank_61 rfl (pb_Tok.cons dX4_hullAtRank_64 rfl (pb_Tok.cons dX4_hullAtRank_65 rfl (pb_Tok.cons dX4_hullAtRank_68 rfl (pb_Tok.cons dX4_hullAtRank_69 rfl (pb_Tok.cons dX4_hullAtRank_70 rfl (pb_Tok.cons dX4_hullAtRank_71 rfl (pb_Tok.cons dX4_hullAtRank_74 rfl (pb_Tok.cons dX4_hullAtRank_77 rfl (pb_Tok.cons dX4_hullAtRank_78 rfl (pb_Tok.cons dX4_hullAtRank_79 rfl (pb_Tok.cons dX4_hullAtRank_82 rfl (pb_Tok.cons dX4_hullAtRank_83 rfl (pb_Tok.cons dX4_hullAtRank_84 rfl (pb_Tok.cons dX4_hullAtRank_87 rfl (pb_Tok.cons dX4_hullAtRank_90 rfl (pb_Tok.cons dX4_hullAtRank_91 rfl (pb_Tok.cons dX4_hullAtRank_92 rfl (pb_Tok.cons dX4_hullAtRank_95 rfl pb_Tok.nil))))))))))))))))))))))))))))))))))))))))))))))))))))))
def tX4_isSymmetric : pb_T := [(0, .aload_n 0, 1, 0), (1, .iload_n 1, 2, 0), (2, .iload_n 1, 3, 0), (3, .invokevirtual 185, 6, 0), (6, .ireturn, 7, 0)]
theorem tX4_isSymmetric_ok : pb_Tok cX4_isSymmetric tX4_isSymmetric := pb_Tok.cons dX4_isSymmetric_0 rfl (pb_Tok.cons dX4_isSymmetric_1 rfl (pb_Tok.cons dX4_isSymmetric_2 rfl (pb_Tok.cons dX4_isSymmetric_3 rfl (pb_Tok.cons dX4_isSymmetric_6 rfl pb_Tok.nil))))
def tX4_isReflectionOf : pb_T := [(0, .aload_n 0, 1, 0), (1, .iconst 0, 2, 0), (2, .putfield 48, 5, 0), (5, .aload_n 0, 6, 0), (6, .iload_n 1, 7, 0), (7, .invokevirtual 84, 10, 0), (10, .ifCond .eq 11, 13, 21), (13, .aload_n 0, 14, 0), (14, .iload_n 2, 15, 0), (15, .invokevirtual 84, 18, 0), (18, .ifCond .ne 11, 21, 29), (21, .aload_n 0, 22, 0), (22, .iconst 1, 23, 0), (23, .invokevirtual 88, 26, 0), (26, .pop, 27, 0), (27, .iconst 0, 28, 0), (28, .ireturn, 29, 0), (29, .aload_n 0, 30, 0), (30, .iload_n 1, 31, 0), (31, .iload_n 2, 32, 0), (32, .invokevirtual 188, 35, 0), (35, .ireturn, 36, 0)]
theorem tX4_isReflectionOf_ok : pb_Tok cX4_isReflectionOf tX4_isReflectionOf := pb_Tok.cons dX4_isReflectionOf_0 rfl (pb_Tok.cons dX4_isReflectionOf_1 rfl (pb_Tok.cons dX4_isReflectionOf_2 rfl (pb_Tok.cons dX4_isReflectionOf_5 rfl (pb_Tok.cons dX4_isReflectionOf_6 rfl (pb_Tok.cons dX4_isReflectionOf_7 rfl (pb_Tok.cons dX4_isReflectionOf_10 rfl (pb_Tok.cons dX4_isReflectionOf_13 rfl (pb_Tok.cons dX4_isReflectionOf_14 rfl (pb_Tok.cons dX4_isReflectionOf_15 rfl (pb_Tok.cons dX4_isReflectionOf_18 rfl (pb_Tok.cons dX4_isReflectionOf_21 rfl (pb_Tok.cons dX4_isReflectionOf_22 rfl (pb_Tok.cons dX4_isReflectionOf_23 rfl (pb_Tok.cons dX4_isReflectionOf_26 rfl (pb_Tok.cons dX4_isReflectionOf_27 rfl (pb_Tok.cons dX4_isReflectionOf_28 rfl (pb_Tok.cons dX4_isReflectionOf_29 rfl (pb_Tok.cons dX4_isReflectionOf_30 rfl (pb_Tok.cons dX4_isReflectionOf_31 rfl (pb_Tok.cons dX4_isReflectionOf_32 rfl (pb_Tok.cons dX4_isReflectionOf_35 rfl pb_Tok.nil)))))))))))))))))))))
def tX4_isReflection : pb_T := [(0, .aload_n 0, 1, 0), (1, .iload_n 1, 2, 0), (2, .invokevirtual 62, 5, 0), (5, .aload_n 0, 6, 0), (6, .iload_n 2, 7, 0), (7, .invokevirtual 62, 10, 0), (10, .if_icmp .ne 7, 13, 17), (13, .iconst 1, 14, 0), (14, .goto 4, 17, 18), (17, .iconst 0, 18, 0), (18, .istore_n 3, 19, 0), (19, .iconst 0, 20, 0), (20, .istore 4, 22, 0), (22, .iload 4, 24, 1), (24, .aload_n 0, 25, 0), (25, .iload_n 1, 26, 0), (26, .invokevirtual 62, 29, 0), (29, .if_icmp .ge 24, 32, 53), (32, .iload_n 3, 33, 0), (33, .ifCond .eq 20, 36, 53), (36, .aload_n 0, 37, 0), (37, .iload_n 1, 38, 0), (38, .iload 4, 40, 0), (40, .iload_n 2, 41, 0), (41, .iload 4, 43, 0), (43, .invokevirtual 181, 46, 0), (46, .istore_n 3, 47, 0), (47, .iinc 4 1, 50, 0), (50, .goto (-28), 53, 22), (53, .iload_n 3, 54, 0), (54, .ireturn, 55, 0)]
theorem tX4_isReflection_ok : pb_Tok cX4_isReflection tX4_isReflection := pb_Tok.cons dX4_isReflection_0 rfl (pb_Tok.cons dX4_isReflection_1 rfl (pb_Tok.cons dX4_isReflection_2 rfl (pb_Tok.cons dX4_isReflection_5 rfl (pb_Tok.cons dX4_isReflection_6 rfl (pb_Tok.cons dX4_isReflection_7 rfl (pb_Tok.cons dX4_isReflection_10 rfl (pb_Tok.cons dX4_isReflection_13 rfl (pb_Tok.cons dX4_isReflection_14 rfl (pb_Tok.cons dX4_isReflection_17 rfl (pb_Tok.cons dX4_isReflection_18 rfl (pb_Tok.cons dX4_isReflection_19 rfl (pb_Tok.cons dX4_isReflection_20 rfl (pb_Tok.cons dX4_isReflection_22 rfl (pb_Tok.cons dX4_isReflection_24 rfl (pb_Tok.cons dX4_isReflection_25 rfl (pb_Tok.cons dX4_isReflection_26 rfl (pb_Tok.cons dX4_isReflection_29 rfl (pb_Tok.cons dX4_isReflection_32 rfl (pb_Tok.cons dX4_isReflection_33 rfl (pb_Tok.cons dX4_isReflection_36 rfl (pb_Tok.cons dX4_isReflection_37 rfl (pb_Tok.cons dX4_isReflection_38 rfl (pb_Tok.cons dX4_isReflection_40 rfl (pb_Tok.cons dX4_isReflection_41 rfl (pb_Tok.cons dX4_isReflection_43 rfl (pb_Tok.cons dX4_isReflection_46 rfl (pb_Tok.cons dX4_isReflection_47 rfl (pb_Tok.cons dX4_isReflection_50 rfl (pb_Tok.cons dX4_isReflection_53 rfl (pb_Tok.cons dX4_isReflection_54 rfl pb_Tok.nil))))))))))))))))))))))))))))))
def tX4_isMirrored : pb_T := [(0, .aload_n 0, 1, 0), (1, .iload_n 1, 2, 0), (2, .iload_n 2, 3, 0), (3, .iconst 0, 4, 0), (4, .invokevirtual 71, 7, 0), (7, .aload_n 0, 8, 0), (8, .iload_n 3, 9, 0), (9, .iload 4, 11, 0), (11, .iconst 1, 12, 0), (12, .invokevirtual 71, 15, 0), (15, .if_icmp .ne 25, 18, 40), (18, .aload_n 0, 19, 0), (19, .iload_n 1, 20, 0), (20, .iload_n 2, 21, 0), (21, .iconst 1, 22, 0), (22, .invokevirtual 71, 25, 0), (25, .aload_n 0, 26, 0), (26, .iload_n 3, 27, 0), (27, .iload 4, 29, 0), (29, .iconst 0, 30, 0), (30, .invokevirtual 71, 33, 0), (33, .if_icmp .ne 7, 36, 40), (36, .iconst 1, 37, 0), (37, .goto 4, 40, 41), (40, .iconst 0, 41, 0), (41, .ireturn, 42, 0)]
theorem tX4_isMirrored_ok : pb_Tok cX4_isMirrored tX4_isMirrored := pb_Tok.cons dX4_isMirrored_0 rfl (pb_Tok.cons dX4_isMirrored_1 rfl (pb_Tok.cons dX4_isMirrored_2 rfl (pb_Tok.cons dX4_isMirrored_3 rfl (pb_Tok.cons dX4_isMirrored_4 rfl (pb_Tok.cons dX4_isMirrored_7 rfl (pb_Tok.cons dX4_isMirrored_8 rfl (pb_Tok.cons dX4_isMirrored_9 rfl (pb_Tok.cons dX4_isMirrored_11 rfl (pb_Tok.cons dX4_isMirrored_12 rfl (pb_Tok.cons dX4_isMirrored_15 rfl (pb_Tok.cons dX4_isMirrored_18 rfl (pb_Tok.cons dX4_isMirrored_19 rfl (pb_Tok.cons dX4_isMirrored_20 rfl (pb_Tok.cons dX4_isMirrored_21 rfl (pb_Tok.cons dX4_isMirrored_22 rfl (pb_Tok.cons dX4_isMirrored_25 rfl (pb_Tok.cons dX4_isMirrored_26 rfl (pb_Tok.cons dX4_isMirrored_27 rfl (pb_Tok.cons dX4_isMirrored_29 rfl (pb_Tok.cons dX4_isMirrored_30 rfl (pb_Tok.cons dX4_isMirrored_33 rfl (pb_Tok.cons dX4_isMirrored_36 rfl (pb_Tok.cons dX4_isMirrored_37 rfl (pb_Tok.cons dX4_isMirrored_40 rfl (pb_Tok.cons dX4_isMirrored_41 rfl pb_Tok.nil)))))))))))))))))))))))))
def tX4_commonStretch_0 : pb_T := [(0, .aload_n 0, 1, 0), (1, .iconst 0, 2, 0), (2, .putfield 48, 5, 0), (5, .aload_n 0, 6, 0), (6, .iload_n 1, 7, 0), (7, .invokevirtual 84, 10, 0), (10, .ifCond .eq 11, 13, 21), (13, .aload_n 0, 14, 0), (14, .iload_n 2, 15, 0), (15, .invokevirtual 84, 18, 0), (18, .ifCond .ne 9, 21, 27), (21, .aload_n 0, 22, 0), (22, .iconst 1, 23, 0), (23, .invokevirtual 88, 26, 0), (26, .ireturn, 27, 0), (27, .iconst 0, 28, 0), (28, .istore_n 3, 29, 0), (29, .iconst 0, 30, 0), (30, .istore 4, 32, 0), (32, .iload 4, 34, 1), (34, .aload_n 0, 35, 0), (35, .iload_n 1, 36, 0), (36, .invokevirtual 62, 39, 0), (39, .if_icmp .ge 89, 42, 128), (42, .iconst 0, 43, 0), (43, .istore 5, 45, 0), (45, .iload 5, 47, 1), (47, .aload_n 0, 48, 0), (48, .iload_n 2, 49, 0), (49, .invokevirtual 62, 52, 0), (52, .if_icmp .ge 70, 55, 122), (55, .iconst 0, 56, 0), (56, .istore 6, 58, 0), (58, .iload 4, 60, 1), (60, .iload 6, 62, 0), (62, .iadd, 63, 0), (63, .aload_n 0, 64, 0), (64, .iload_n 1, 65, 0), (65, .invokevirtual 62, 68, 0), (68, .if_icmp .ge 41, 71, 109), (71, .iload 5, 73, 0), (73, .iload 6, 75, 0), (75, .iadd, 76, 0), (76, .aload_n 0, 77, 0), (77, .iload_n 2, 78, 0), (78, .invokevirtual 62, 81, 0), (81, .if_icmp .ge 28, 84, 109), (84, .aload_n 0, 85, 0), (85, .iload_n 1, 86, 0), (86, .iload 4, 88, 0), (88, .iload 6, 90, 0), (90, .iadd, 91, 0), (91, .iload_n 2, 92, 0), (92, .iload 5, 94, 0), (94, .iload 6, 96, 0), (96, .iadd, 97, 0), (97, .invokevirtual 181, 100, 0), (100, .ifCond .eq 9, 103, 109), (103, .iinc 6 1, 106, 0), (106, .goto (-48), 109, 58)]
theorem tX4_commonStretch_0_ok : pb_Tok cX4_commonStretch tX4_commonStretch_0 := pb_Tok.cons dX4_commonStretch_0 rfl (pb_Tok.cons dX4_commonStretch_1 rfl (pb_Tok.cons dX4_commonStretch_2 rfl (pb_Tok.cons dX4_commonStretch_5 rfl (pb_Tok.cons dX4_commonStretch_6 rfl (pb_Tok.cons dX4_commonStretch_7 rfl (pb_Tok.cons dX4_commonStretch_10 rfl (pb_Tok.cons dX4_commonStretch_13 rfl (pb_Tok.cons dX4_commonStretch_14 rfl (pb_Tok.cons dX4_commonStretch_15 rfl (pb_Tok.cons dX4_commonStretch_18 rfl (pb_Tok.cons dX4_commonStretch_21 rfl (pb_Tok.cons dX4_commonStretch_22 rfl (pb_Tok.cons dX4_commonStretch_23 rfl (pb_Tok.cons dX4_commonStretch_26 rfl (pb_Tok.cons dX4_commonStretch_27 rfl (pb_Tok.cons dX4_commonStretch_28 rfl (pb_Tok.cons dX4_commonStretch_29 rfl (pb_Tok.cons dX4_commonStretch_30 rfl (pb_Tok.cons dX4_commonStretch_32 rfl (pb_Tok.cons dX4_commonStretch_34 rfl (pb_Tok.cons dX4_commonStretch_35 rfl (pb_Tok.cons dX4_commonStretch_36 rfl (pb_Tok.cons dX4_commonStretch_39 rfl (pb_Tok.cons dX4_commonStretch_42 rfl (pb_Tok.cons dX4_commonStretch_43 rfl (pb_Tok.cons dX4_commonStretch_45 rfl (pb_Tok.cons dX4_commonStretch_47 rfl (pb_Tok.cons dX4_commonStretch_48 rfl (pb_Tok.cons dX4_commonStretch_49 rfl (pb_Tok.cons dX4_commonStretch_52 rfl (pb_Tok.cons dX4_commonStretch_55 rfl (pb_Tok.cons dX4_commonStretch_56 rfl (pb_Tok.cons dX4_commonStretch_58 rfl (pb_Tok.cons dX4_commonStretch_60 rfl (pb_Tok.cons dX4_commonStretch_62 rfl (pb_Tok.cons dX4_commonStretch_63 rfl (pb_Tok.cons dX4_commonStretch_64 rfl (pb_Tok.cons dX4_commonStretch_65 rfl (pb_Tok.cons dX4_commonStretch_68 rfl (pb_Tok.cons dX4_commonStretch_71 rfl (pb_Tok.cons dX4_commonStretch_73 rfl (pb_Tok.cons dX4_commonStretch_75 rfl (pb_Tok.cons dX4_commonStretch_76 rfl (pb_Tok.cons dX4_commonStretch_77 rfl (pb_Tok.cons dX4_commonStretch_78 rfl (pb_Tok.cons dX4_commonStretch_81 rfl (pb_Tok.cons dX4_commonStretch_84 rfl (pb_Tok.cons dX4_commonStretch_85 rfl (pb_Tok.cons dX4_commonStretch_86 rfl (pb_Tok.cons dX4_commonStretch_88 rfl (pb_Tok.cons dX4_commonStretch_90 rfl (pb_Tok.cons dX4_commonStretch_91 rfl (pb_Tok.cons dX4_commonStretch_92 rfl (pb_Tok.cons dX4_commonStretch_94 rfl (pb_Tok.cons dX4_commonStretch_96 rfl (pb_Tok.cons dX4_commonStretch_97 rfl (pb_Tok.cons dX4_commonStretch_100 rfl (pb_Tok.cons dX4_commonStretch_103 rfl (pb_Tok.cons dX4_commonStretch_106 rfl pb_Tok.nil)))))))))))))))))))))))))))))))))))))))))))))))))))))))))))
def tX4_commonStretch_1 : pb_T := [(109, .iload_n 3, 110, 0), (110, .iload 6, 112, 0), (112, .invokestatic 65, 115, 0), (115, .istore_n 3, 116, 0), (116, .iinc 5 1, 119, 0), (119, .goto (-74), 122, 45), (122, .iinc 4 1, 125, 0), (125, .goto (-93), 128, 32), (128, .iload_n 3, 129, 0), (129, .ireturn, 130, 0)]
theorem tX4_commonStretch_1_ok : pb_Tok cX4_commonStretch tX4_commonStretch_1 := pb_Tok.cons dX4_commonStretch_109 rfl (pb_Tok.cons dX4_commonStretch_110 rfl (pb_Tok.cons dX4_commonStretch_112 rfl (pb_Tok.cons dX4_commonStretch_115 rfl (pb_Tok.cons dX4_commonStretch_116 rfl (pb_Tok.cons dX4_commonStretch_119 rfl (pb_Tok.cons dX4_commonStretch_122 rfl (pb_Tok.cons dX4_commonStretch_125 rfl (pb_Tok.cons dX4_commonStretch_128 rfl (pb_Tok.cons dX4_commonStretch_129 rfl pb_Tok.nil)))))))))
def tX4_commonStretch : pb_T := tX4_commonStretch_0 ++ (tX4_commonStretch_1)
theorem tX4_commonStretch_ok : pb_Tok cX4_commonStretch tX4_commonStretch := pb_Tok.app tX4_commonStretch_0_ok (tX4_commonStretch_1_ok)
def tX4_commonStretchByTrying : pb_T := [(0, .aload_n 0, 1, 0), (1, .iload_n 1, 2, 0), (2, .iload_n 2, 3, 0), (3, .invokevirtual 191, 6, 0), (6, .ireturn, 7, 0)]
theorem tX4_commonStretchByTrying_ok : pb_Tok cX4_commonStretchByTrying tX4_commonStretchByTrying := pb_Tok.cons dX4_commonStretchByTrying_0 rfl (pb_Tok.cons dX4_commonStretchByTrying_1 rfl (pb_Tok.cons dX4_commonStretchByTrying_2 rfl (pb_Tok.cons dX4_commonStretchByTrying_3 rfl (pb_Tok.cons dX4_commonStretchByTrying_6 rfl pb_Tok.nil))))
def tX4_hour : pb_T := [(0, .aload_n 0, 1, 0), (1, .iconst 0, 2, 0), (2, .putfield 48, 5, 0), (5, .aload_n 0, 6, 0), (6, .getfield 9, 9, 0), (9, .iconst 1, 10, 0), (10, .iaload, 11, 0), (11, .ireturn, 12, 0)]
theorem tX4_hour_ok : pb_Tok cX4_hour tX4_hour := pb_Tok.cons dX4_hour_0 rfl (pb_Tok.cons dX4_hour_1 rfl (pb_Tok.cons dX4_hour_2 rfl (pb_Tok.cons dX4_hour_5 rfl (pb_Tok.cons dX4_hour_6 rfl (pb_Tok.cons dX4_hour_9 rfl (pb_Tok.cons dX4_hour_10 rfl (pb_Tok.cons dX4_hour_11 rfl pb_Tok.nil)))))))
def tX4_tideAfter : pb_T := [(0, .aload_n 0, 1, 0), (1, .iconst 0, 2, 0), (2, .putfield 48, 5, 0), (5, .iload_n 1, 6, 0), (6, .i2l, 7, 0), (7, .lconst 0, 8, 0), (8, .ldc2_w 109, 11, 0), (11, .invokestatic 54, 14, 0), (14, .ifCond .eq 18, 17, 32), (17, .aload_n 0, 18, 0), (18, .aload_n 0, 19, 0), (19, .getfield 9, 22, 0), (22, .iconst 1, 23, 0), (23, .iaload, 24, 0), (24, .iload_n 1, 25, 0), (25, .iadd, 26, 0), (26, .invokevirtual 123, 29, 0), (29, .goto 8, 32, 37), (32, .aload_n 0, 33, 0), (33, .iconst 1, 34, 0), (34, .invokevirtual 88, 37, 0), (37, .ireturn, 38, 0)]
theorem tX4_tideAfter_ok : pb_Tok cX4_tideAfter tX4_tideAfter := pb_Tok.cons dX4_tideAfter_0 rfl (pb_Tok.cons dX4_tideAfter_1 rfl (pb_Tok.cons dX4_tideAfter_2 rfl (pb_Tok.cons dX4_tideAfter_5 rfl (pb_Tok.cons dX4_tideAfter_6 rfl (pb_Tok.cons dX4_tideAfter_7 rfl (pb_Tok.cons dX4_tideAfter_8 rfl (pb_Tok.cons dX4_tideAfter_11 rfl (pb_Tok.cons dX4_tideAfter_14 rfl (pb_Tok.cons dX4_tideAfter_17 rfl (pb_Tok.cons dX4_tideAfter_18 rfl (pb_Tok.cons dX4_tideAfter_19 rfl (pb_Tok.cons dX4_tideAfter_22 rfl (pb_Tok.cons dX4_tideAfter_23 rfl (pb_Tok.cons dX4_tideAfter_24 rfl (pb_Tok.cons dX4_tideAfter_25 rfl (pb_Tok.cons dX4_tideAfter_26 rfl (pb_Tok.cons dX4_tideAfter_29 rfl (pb_Tok.cons dX4_tideAfter_32 rfl (pb_Tok.cons dX4_tideAfter_33 rfl (pb_Tok.cons dX4_tideAfter_34 rfl (pb_Tok.cons dX4_tideAfter_37 rfl pb_Tok.nil)))))))))))))))))))))
def tX4_hoursToLaunch_0 : pb_T := [(0, .aload_n 0, 1, 0), (1, .iconst 0, 2, 0), (2, .putfield 48, 5, 0), (5, .aload_n 0, 6, 0), (6, .iload_n 1, 7, 0), (7, .invokevirtual 84, 10, 0), (10, .ifCond .ne 9, 13, 19), (13, .aload_n 0, 14, 0), (14, .iconst 1, 15, 0), (15, .invokevirtual 88, 18, 0), (18, .ireturn, 19, 0), (19, .aload_n 0, 20, 0), (20, .iload_n 1, 21, 0), (21, .invokevirtual 81, 24, 0), (24, .ifCond .eq 9, 27, 33), (27, .aload_n 0, 28, 0), (28, .iconst 2, 29, 0), (29, .invokevirtual 88, 32, 0), (32, .ireturn, 33, 0), (33, .aload_n 0, 34, 0), (34, .iload_n 1, 35, 0), (35, .aload_n 0, 36, 0), (36, .iload_n 1, 37, 0), (37, .invokevirtual 117, 40, 0), (40, .invokevirtual 120, 43, 0), (43, .istore_n 2, 44, 0), (44, .aload_n 0, 45, 0), (45, .iload_n 1, 46, 0), (46, .invokevirtual 62, 49, 0), (49, .iconst 2, 50, 0), (50, .if_icmp .lt 8, 53, 58), (53, .iload_n 2, 54, 0), (54, .iconst (-1), 55, 0), (55, .if_icmp .ne 9, 58, 64), (58, .aload_n 0, 59, 0), (59, .iconst 3, 60, 0), (60, .invokevirtual 88, 63, 0), (63, .ireturn, 64, 0), (64, .iconst 0, 65, 0), (65, .istore_n 3, 66, 0), (66, .iload_n 3, 67, 1), (67, .bipush 12, 69, 0), (69, .if_icmp .ge 25, 72, 94), (72, .aload_n 0, 73, 0), (73, .aload_n 0, 74, 0), (74, .getfield 9, 77, 0), (77, .iconst 1, 78, 0), (78, .iaload, 79, 0), (79, .iload_n 3, 80, 0), (80, .iadd, 81, 0), (81, .invokevirtual 123, 84, 0), (84, .iload_n 2, 85, 0), (85, .if_icmp .ge 9, 88, 94), (88, .iinc 3 1, 91, 0), (91, .goto (-25), 94, 66), (94, .iload_n 3, 95, 0), (95, .bipush 12, 97, 0), (97, .if_icmp .ne 11, 100, 108), (100, .aload_n 0, 101, 0), (101, .iconst 3, 102, 0)]
theorem tX4_hoursToLaunch_0_ok : pb_Tok cX4_hoursToLaunch tX4_hoursToLaunch_0 := pb_Tok.cons dX4_hoursToLaunch_0 rfl (pb_Tok.cons dX4_hoursToLaunch_1 rfl (pb_Tok.cons dX4_hoursToLaunch_2 rfl (pb_Tok.cons dX4_hoursToLaunch_5 rfl (pb_Tok.cons dX4_hoursToLaunch_6 rfl (pb_Tok.cons dX4_hoursToLaunch_7 rfl (pb_Tok.cons dX4_hoursToLaunch_10 rfl (pb_Tok.cons dX4_hoursToLaunch_13 rfl (pb_Tok.cons dX4_hoursToLaunch_14 rfl (pb_Tok.cons dX4_hoursToLaunch_15 rfl (pb_Tok.cons dX4_hoursToLaunch_18 rfl (pb_Tok.cons dX4_hoursToLaunch_19 rfl (pb_Tok.cons dX4_hoursToLaunch_20 rfl (pb_Tok.cons dX4_hoursToLaunch_21 rfl (pb_Tok.cons dX4_hoursToLaunch_24 rfl (pb_Tok.cons dX4_hoursToLaunch_27 rfl (pb_Tok.cons dX4_hoursToLaunch_28 rfl (pb_Tok.cons dX4_hoursToLaunch_29 rfl (pb_Tok.cons dX4_hoursToLaunch_32 rfl (pb_Tok.cons dX4_hoursToLaunch_33 rfl (pb_Tok.cons dX4_hoursToLaunch_34 rfl (pb_Tok.cons dX4_hoursToLaunch_35 rfl (pb_Tok.cons dX4_hoursToLaunch_36 rfl (pb_Tok.cons dX4_hoursToLaunch_37 rfl (pb_Tok.cons dX4_hoursToLaunch_40 rfl (pb_Tok.cons dX4_hoursToLaunch_43 rfl (pb_Tok.cons dX4_hoursToLaunch_44 rfl (pb_Tok.cons dX4_hoursToLaunch_45 rfl (pb_Tok.cons dX4_hoursToLaunch_46 rfl (pb_Tok.cons dX4_hoursToLaunch_49 rfl (pb_Tok.cons dX4_hoursToLaunch_50 rfl (pb_Tok.cons dX4_hoursToLaunch_53 rfl (pb_Tok.cons dX4_hoursToLaunch_54 rfl (pb_Tok.cons dX4_hoursToLaunch_55 rfl (pb_Tok.cons dX4_hoursToLaunch_58 rfl (pb_Tok.cons dX4_hoursToLaunch_59 rfl (pb_Tok.cons dX4_hoursToLaunch_60 rfl (pb_Tok.cons dX4_hoursToLaunch_63 rfl (pb_Tok.cons dX4_hoursToLaunch_64 rfl (pb_Tok.cons dX4_hoursToLaunch_65 rfl (pb_Tok.cons dX4_hoursToLaunch_66 rfl (pb_Tok.cons dX4_hoursToLaunch_67 rfl (pb_Tok.cons dX4_hoursToLaunch_69 rfl (pb_Tok.cons dX4_hoursToLaunch_72 rfl (pb_Tok.cons dX4_hoursToLaunch_73 rfl (pb_Tok.cons dX4_hoursToLaunch_74 rfl (pb_Tok.cons dX4_hoursToLaunch_77 rfl (pb_Tok.cons dX4_hoursToLaunch_78 rfl (pb_Tok.cons dX4_hoursToLaunch_79 rfl (pb_Tok.cons dX4_hoursToLaunch_80 rfl (pb_Tok.cons dX4_hoursToLaunch_81 rfl (pb_Tok.cons dX4_hoursToLaunch_84 rfl (pb_Tok.cons dX4_hoursToLaunch_85 rfl (pb_Tok.cons dX4_hoursToLaunch_88 rfl (pb_Tok.cons dX4_hoursToLaunch_91 rfl (pb_Tok.cons dX4_hoursToLaunch_94 rfl (pb_Tok.cons dX4_hoursToLaunch_95 rfl (pb_Tok.cons dX4_hoursToLaunch_97 rfl (pb_Tok.cons dX4_hoursToLaunch_100 rfl (pb_Tok.cons dX4_hoursToLaunch_101 rfl pb_Tok.nil)))))))))))))))))))))))))))))))))))))))))))))))))))))))))))
def tX4_hoursToLaunch_1 : pb_T := [(102, .invokevirtual 88, 105, 0), (105, .goto 4, 108, 109), (108, .iload_n 3, 109, 0), (109, .ireturn, 110, 0)]
theorem tX4_hoursToLaunch_1_ok : pb_Tok cX4_hoursToLaunch tX4_hoursToLaunch_1 := pb_Tok.cons dX4_hoursToLaunch_102 rfl (pb_Tok.cons dX4_hoursToLaunch_105 rfl (pb_Tok.cons dX4_hoursToLaunch_108 rfl (pb_Tok.cons dX4_hoursToLaunch_109 rfl pb_Tok.nil)))
def tX4_hoursToLaunch : pb_T := tX4_hoursToLaunch_0 ++ (tX4_hoursToLaunch_1)
theorem tX4_hoursToLaunch_ok : pb_Tok cX4_hoursToLaunch tX4_hoursToLaunch := pb_Tok.app tX4_hoursToLaunch_0_ok (tX4_hoursToLaunch_1_ok)
def tX4_hoursToLaunchByTides : pb_T := [(0, .aload_n 0, 1, 0), (1, .iload_n 1, 2, 0), (2, .invokevirtual 194, 5, 0), (5, .ireturn, 6, 0)]
theorem tX4_hoursToLaunchByTides_ok : pb_Tok cX4_hoursToLaunchByTides tX4_hoursToLaunchByTides := pb_Tok.cons dX4_hoursToLaunchByTides_0 rfl (pb_Tok.cons dX4_hoursToLaunchByTides_1 rfl (pb_Tok.cons dX4_hoursToLaunchByTides_2 rfl (pb_Tok.cons dX4_hoursToLaunchByTides_5 rfl pb_Tok.nil)))
def tX4_hoursToSinking_0 : pb_T := [(0, .aload_n 0, 1, 0), (1, .iconst 0, 2, 0), (2, .putfield 48, 5, 0), (5, .aload_n 0, 6, 0), (6, .iload_n 1, 7, 0), (7, .invokevirtual 84, 10, 0), (10, .ifCond .ne 9, 13, 19), (13, .aload_n 0, 14, 0), (14, .iconst 1, 15, 0), (15, .invokevirtual 88, 18, 0), (18, .ireturn, 19, 0), (19, .aload_n 0, 20, 0), (20, .iload_n 1, 21, 0), (21, .invokevirtual 81, 24, 0), (24, .iconst 1, 25, 0), (25, .if_icmp .eq 9, 28, 34), (28, .aload_n 0, 29, 0), (29, .iconst 2, 30, 0), (30, .invokevirtual 88, 33, 0), (33, .ireturn, 34, 0), (34, .iconst 0, 35, 0), (35, .istore_n 2, 36, 0), (36, .iload_n 2, 37, 1), (37, .aload_n 0, 38, 0), (38, .iload_n 1, 39, 0), (39, .invokevirtual 78, 42, 0), (42, .if_icmp .ge 29, 45, 71), (45, .aload_n 0, 46, 0), (46, .getfield 32, 49, 0), (49, .iload_n 2, 50, 0), (50, .aload_n 0, 51, 0), (51, .getfield 9, 54, 0), (54, .iload_n 1, 55, 0), (55, .invokestatic 58, 58, 0), (58, .bipush 20, 60, 0), (60, .iadd, 61, 0), (61, .iload_n 2, 62, 0), (62, .iadd, 63, 0), (63, .iaload, 64, 0), (64, .iastore, 65, 0), (65, .iinc 2 1, 68, 0), (68, .goto (-32), 71, 36), (71, .aload_n 0, 72, 0), (72, .iload_n 1, 73, 0), (73, .invokevirtual 117, 76, 0), (76, .istore_n 2, 77, 0), (77, .iconst 1, 78, 0), (78, .istore_n 3, 79, 0), (79, .iload_n 3, 80, 1), (80, .sipush 500, 83, 0), (83, .if_icmp .gt 97, 86, 180), (86, .iconst 0, 87, 0), (87, .istore 4, 89, 0), (89, .iload 4, 91, 1), (91, .aload_n 0, 92, 0), (92, .iload_n 1, 93, 0), (93, .invokevirtual 78, 96, 0), (96, .if_icmp .ge 66, 99, 162), (99, .iload_n 2, 100, 0), (100, .bipush 9, 102, 0)]
theorem tX4_hoursToSinking_0_ok : pb_Tok cX4_hoursToSinking tX4_hoursToSinking_0 := pb_Tok.cons dX4_hoursToSinking_0 rfl (pb_Tok.cons dX4_hoursToSinking_1 rfl (pb_Tok.cons dX4_hoursToSinking_2 rfl (pb_Tok.cons dX4_hoursToSinking_5 rfl (pb_Tok.cons dX4_hoursToSinking_6 rfl (pb_Tok.cons dX4_hoursToSinking_7 rfl (pb_Tok.cons dX4_hoursToSinking_10 rfl (pb_Tok.cons dX4_hoursToSinking_13 rfl (pb_Tok.cons dX4_hoursToSinking_14 rfl (pb_Tok.cons dX4_hoursToSinking_15 rfl (pb_Tok.cons dX4_hoursToSinking_18 rfl (pb_Tok.cons dX4_hoursToSinking_19 rfl (pb_Tok.cons dX4_hoursToSinking_20 rfl (pb_Tok.cons dX4_hoursToSinking_21 rfl (pb_Tok.cons dX4_hoursToSinking_24 rfl (pb_Tok.cons dX4_hoursToSinking_25 rfl (pb_Tok.cons dX4_hoursToSinking_28 rfl (pb_Tok.cons dX4_hoursToSinking_29 rfl (pb_Tok.cons dX4_hoursToSinking_30 rfl (pb_Tok.cons dX4_hoursToSinking_33 rfl (pb_Tok.cons dX4_hoursToSinking_34 rfl (pb_Tok.cons dX4_hoursToSinking_35 rfl (pb_Tok.cons dX4_hoursToSinking_36 rfl (pb_Tok.cons dX4_hoursToSinking_37 rfl (pb_Tok.cons dX4_hoursToSinking_38 rfl (pb_Tok.cons dX4_hoursToSinking_39 rfl (pb_Tok.cons dX4_hoursToSinking_42 rfl (pb_Tok.cons dX4_hoursToSinking_45 rfl (pb_Tok.cons dX4_hoursToSinking_46 rfl (pb_Tok.cons dX4_hoursToSinking_49 rfl (pb_Tok.cons dX4_hoursToSinking_50 rfl (pb_Tok.cons dX4_hoursToSinking_51 rfl (pb_Tok.cons dX4_hoursToSinking_54 rfl (pb_Tok.cons dX4_hoursToSinking_55 rfl (pb_Tok.cons dX4_hoursToSinking_58 rfl (pb_Tok.cons dX4_hoursToSinking_60 rfl (pb_Tok.cons dX4_hoursToSinking_61 rfl (pb_Tok.cons dX4_hoursToSinking_62 rfl (pb_Tok.cons dX4_hoursToSinking_63 rfl (pb_Tok.cons dX4_hoursToSinking_64 rfl (pb_Tok.cons dX4_hoursToSinking_65 rfl (pb_Tok.cons dX4_hoursToSinking_68 rfl (pb_Tok.cons dX4_hoursToSinking_71 rfl (pb_Tok.cons dX4_hoursToSinking_72 rfl (pb_Tok.cons dX4_hoursToSinking_73 rfl (pb_Tok.cons dX4_hoursToSinking_76 rfl (pb_Tok.cons dX4_hoursToSinking_77 rfl (pb_Tok.cons dX4_hoursToSinking_78 rfl (pb_Tok.cons dX4_hoursToSinking_79 rfl (pb_Tok.cons dX4_hoursToSinking_80 rfl (pb_Tok.cons dX4_hoursToSinking_83 rfl (pb_Tok.cons dX4_hoursToSinking_86 rfl (pb_Tok.cons dX4_hoursToSinking_87 rfl (pb_Tok.cons dX4_hoursToSinking_89 rfl (pb_Tok.cons dX4_hoursToSinking_91 rfl (pb_Tok.cons dX4_hoursToSinking_92 rfl (pb_Tok.cons dX4_hoursToSinking_93 rfl (pb_Tok.cons dX4_hoursToSinking_96 rfl (pb_Tok.cons dX4_hoursToSinking_99 rfl (pb_Tok.cons dX4_hoursToSinking_100 rfl pb_Tok.nil)))))))))))))))))))))))))))))))))))))))))))))))))))))))))))
def tX4_hoursToSinking_1 : pb_T := [(102, .aload_n 0, 103, 0), (103, .getfield 32, 106, 0), (106, .iload 4, 108, 0), (108, .iaload, 109, 0), (109, .isub, 110, 0), (110, .iadd, 111, 0), (111, .istore_n 2, 112, 0), (112, .aload_n 0, 113, 0), (113, .getfield 32, 116, 0), (116, .iload 4, 118, 0), (118, .aload_n 0, 119, 0), (119, .getfield 9, 122, 0), (122, .iconst 1, 123, 0), (123, .iaload, 124, 0), (124, .iload_n 3, 125, 0), (125, .iadd, 126, 0), (126, .bipush 6, 128, 0), (128, .irem, 129, 0), (129, .ifCond .ne 19, 132, 148), (132, .iconst 0, 133, 0), (133, .aload_n 0, 134, 0), (134, .getfield 32, 137, 0), (137, .iload 4, 139, 0), (139, .iaload, 140, 0), (140, .iconst 1, 141, 0), (141, .isub, 142, 0), (142, .invokestatic 65, 145, 0), (145, .goto 10, 148, 155), (148, .aload_n 0, 149, 0), (149, .getfield 32, 152, 0), (152, .iload 4, 154, 0), (154, .iaload, 155, 0), (155, .iastore, 156, 0), (156, .iinc 4 1, 159, 0), (159, .goto (-70), 162, 89), (162, .aload_n 0, 163, 0), (163, .iload_n 1, 164, 0), (164, .iload_n 2, 165, 0), (165, .invokevirtual 120, 168, 0), (168, .iconst (-1), 169, 0), (169, .if_icmp .ne 5, 172, 174), (172, .iload_n 3, 173, 0), (173, .ireturn, 174, 0), (174, .iinc 3 1, 177, 0), (177, .goto (-98), 180, 79), (180, .aload_n 0, 181, 0), (181, .iconst 3, 182, 0), (182, .invokevirtual 88, 185, 0), (185, .ireturn, 186, 0)]
theorem tX4_hoursToSinking_1_ok : pb_Tok cX4_hoursToSinking tX4_hoursToSinking_1 := pb_Tok.cons dX4_hoursToSinking_102 rfl (pb_Tok.cons dX4_hoursToSinking_103 rfl (pb_Tok.cons dX4_hoursToSinking_106 rfl (pb_Tok.cons dX4_hoursToSinking_108 rfl (pb_Tok.cons dX4_hoursToSinking_109 rfl (pb_Tok.cons dX4_hoursToSinking_110 rfl (pb_Tok.cons dX4_hoursToSinking_111 rfl (pb_Tok.cons dX4_hoursToSinking_112 rfl (pb_Tok.cons dX4_hoursToSinking_113 rfl (pb_Tok.cons dX4_hoursToSinking_116 rfl (pb_Tok.cons dX4_hoursToSinking_118 rfl (pb_Tok.cons dX4_hoursToSinking_119 rfl (pb_Tok.cons dX4_hoursToSinking_122 rfl (pb_Tok.cons dX4_hoursToSinking_123 rfl (pb_Tok.cons dX4_hoursToSinking_124 rfl (pb_Tok.cons dX4_hoursToSinking_125 rfl (pb_Tok.cons dX4_hoursToSinking_126 rfl (pb_Tok.cons dX4_hoursToSinking_128 rfl (pb_Tok.cons dX4_hoursToSinking_129 rfl (pb_Tok.cons dX4_hoursToSinking_132 rfl (pb_Tok.cons dX4_hoursToSinking_133 rfl (pb_Tok.cons dX4_hoursToSinking_134 rfl (pb_Tok.cons dX4_hoursToSinking_137 rfl (pb_Tok.cons dX4_hoursToSinking_139 rfl (pb_Tok.cons dX4_hoursToSinking_140 rfl (pb_Tok.cons dX4_hoursToSinking_141 rfl (pb_Tok.cons dX4_hoursToSinking_142 rfl (pb_Tok.cons dX4_hoursToSinking_145 rfl (pb_Tok.cons dX4_hoursToSinking_148 rfl (pb_Tok.cons dX4_hoursToSinking_149 rfl (pb_Tok.cons dX4_hoursToSinking_152 rfl (pb_Tok.cons dX4_hoursToSinking_154 rfl (pb_Tok.cons dX4_hoursToSinking_155 rfl (pb_Tok.cons dX4_hoursToSinking_156 rfl (pb_Tok.cons dX4_hoursToSinking_159 rfl (pb_Tok.cons dX4_hoursToSinking_162 rfl (pb_Tok.cons dX4_hoursToSinking_163 rfl (pb_Tok.cons dX4_hoursToSinking_164 rfl (pb_Tok.cons dX4_hoursToSinking_165 rfl (pb_Tok.cons dX4_hoursToSinking_168 rfl (pb_Tok.cons dX4_hoursToSinking_169 rfl (pb_Tok.cons dX4_hoursToSinking_172 rfl (pb_Tok.cons dX4_hoursToSinking_173 rfl (pb_Tok.cons dX4_hoursToSinking_174 rfl (pb_Tok.cons dX4_hoursToSinking_177 rfl (pb_Tok.cons dX4_hoursToSinking_180 rfl (pb_Tok.cons dX4_hoursToSinking_181 rfl (pb_Tok.cons dX4_hoursToSinking_182 rfl (pb_Tok.cons dX4_hoursToSinking_185 rfl pb_Tok.nil))))))))))))))))))))))))))))))))))))))))))))))))
def tX4_hoursToSinking : pb_T := tX4_hoursToSinking_0 ++ (tX4_hoursToSinking_1)
theorem tX4_hoursToSinking_ok : pb_Tok cX4_hoursToSinking tX4_hoursToSinking := pb_Tok.app tX4_hoursToSinking_0_ok (tX4_hoursToSinking_1_ok)
def tX4_slipLength : pb_T := [(0, .aload_n 0, 1, 0), (1, .iconst 0, 2, 0), (2, .putfield 48, 5, 0), (5, .iload_n 1, 6, 0), (6, .i2l, 7, 0), (7, .lconst 0, 8, 0), (8, .ldc2_w 157, 11, 0), (11, .invokestatic 54, 14, 0), (14, .ifCond .eq 15, 17, 29), (17, .aload_n 0, 18, 0), (18, .getfield 9, 21, 0), (21, .bipush 17, 23, 0), (23, .iload_n 1, 24, 0), (24, .iadd, 25, 0), (25, .iaload, 26, 0), (26, .goto 8, 29, 34), (29, .aload_n 0, 30, 0), (30, .iconst 1, 31, 0), (31, .invokevirtual 88, 34, 0), (34, .ireturn, 35, 0)]
theorem tX4_slipLength_ok : pb_Tok cX4_slipLength tX4_slipLength := pb_Tok.cons dX4_slipLength_0 rfl (pb_Tok.cons dX4_slipLength_1 rfl (pb_Tok.cons dX4_slipLength_2 rfl (pb_Tok.cons dX4_slipLength_5 rfl (pb_Tok.cons dX4_slipLength_6 rfl (pb_Tok.cons dX4_slipLength_7 rfl (pb_Tok.cons dX4_slipLength_8 rfl (pb_Tok.cons dX4_slipLength_11 rfl (pb_Tok.cons dX4_slipLength_14 rfl (pb_Tok.cons dX4_slipLength_17 rfl (pb_Tok.cons dX4_slipLength_18 rfl (pb_Tok.cons dX4_slipLength_21 rfl (pb_Tok.cons dX4_slipLength_23 rfl (pb_Tok.cons dX4_slipLength_24 rfl (pb_Tok.cons dX4_slipLength_25 rfl (pb_Tok.cons dX4_slipLength_26 rfl (pb_Tok.cons dX4_slipLength_29 rfl (pb_Tok.cons dX4_slipLength_30 rfl (pb_Tok.cons dX4_slipLength_31 rfl (pb_Tok.cons dX4_slipLength_34 rfl pb_Tok.nil)))))))))))))))))))
def tX4_mostOnSlips : pb_T := [(0, .aload_n 0, 1, 0), (1, .iconst 0, 2, 0), (2, .putfield 48, 5, 0), (5, .aload_n 0, 6, 0), (6, .invokevirtual 207, 9, 0), (9, .aload_n 0, 10, 0), (10, .getfield 197, 13, 0), (13, .ireturn, 14, 0)]
theorem tX4_mostOnSlips_ok : pb_Tok cX4_mostOnSlips tX4_mostOnSlips := pb_Tok.cons dX4_mostOnSlips_0 rfl (pb_Tok.cons dX4_mostOnSlips_1 rfl (pb_Tok.cons dX4_mostOnSlips_2 rfl (pb_Tok.cons dX4_mostOnSlips_5 rfl (pb_Tok.cons dX4_mostOnSlips_6 rfl (pb_Tok.cons dX4_mostOnSlips_9 rfl (pb_Tok.cons dX4_mostOnSlips_10 rfl (pb_Tok.cons dX4_mostOnSlips_13 rfl pb_Tok.nil)))))))
def tX4_worksUses : pb_T := [(0, .aload_n 0, 1, 0), (1, .iconst 0, 2, 0), (2, .putfield 197, 5, 0), (5, .aload_n 0, 6, 0), (6, .lconst 0, 7, 0), (7, .putfield 200, 10, 0), (10, .iconst 0, 11, 0), (11, .istore_n 1, 12, 0), (12, .iload_n 1, 13, 1), (13, .sipush 2401, 16, 0), (16, .if_icmp .ge 64, 19, 80), (19, .aload_n 0, 20, 0), (20, .iload_n 1, 21, 0), (21, .invokevirtual 204, 24, 0), (24, .istore_n 2, 25, 0), (25, .aload_n 0, 26, 0), (26, .iload_n 2, 27, 0), (27, .aload_n 0, 28, 0), (28, .getfield 197, 31, 0), (31, .if_icmp .le 7, 34, 38), (34, .lconst 1, 35, 0), (35, .goto 24, 38, 59), (38, .iload_n 2, 39, 0), (39, .aload_n 0, 40, 0), (40, .getfield 197, 43, 0), (43, .if_icmp .ne 12, 46, 55), (46, .aload_n 0, 47, 0), (47, .getfield 200, 50, 0), (50, .lconst 1, 51, 0), (51, .ladd, 52, 0), (52, .goto 7, 55, 59), (55, .aload_n 0, 56, 0), (56, .getfield 200, 59, 0), (59, .putfield 200, 62, 0), (62, .aload_n 0, 63, 0), (63, .aload_n 0, 64, 0), (64, .getfield 197, 67, 0), (67, .iload_n 2, 68, 0), (68, .invokestatic 65, 71, 0), (71, .putfield 197, 74, 0), (74, .iinc 1 1, 77, 0), (77, .goto (-65), 80, 12), (80, .return_, 81, 0)]
theorem tX4_worksUses_ok : pb_Tok cX4_worksUses tX4_worksUses := pb_Tok.cons dX4_worksUses_0 rfl (pb_Tok.cons dX4_worksUses_1 rfl (pb_Tok.cons dX4_worksUses_2 rfl (pb_Tok.cons dX4_worksUses_5 rfl (pb_Tok.cons dX4_worksUses_6 rfl (pb_Tok.cons dX4_worksUses_7 rfl (pb_Tok.cons dX4_worksUses_10 rfl (pb_Tok.cons dX4_worksUses_11 rfl (pb_Tok.cons dX4_worksUses_12 rfl (pb_Tok.cons dX4_worksUses_13 rfl (pb_Tok.cons dX4_worksUses_16 rfl (pb_Tok.cons dX4_worksUses_19 rfl (pb_Tok.cons dX4_worksUses_20 rfl (pb_Tok.cons dX4_worksUses_21 rfl (pb_Tok.cons dX4_worksUses_24 rfl (pb_Tok.cons dX4_worksUses_25 rfl (pb_Tok.cons dX4_worksUses_26 rfl (pb_Tok.cons dX4_worksUses_27 rfl (pb_Tok.cons dX4_worksUses_28 rfl (pb_Tok.cons dX4_worksUses_31 rfl (pb_Tok.cons dX4_worksUses_34 rfl (pb_Tok.cons dX4_worksUses_35 rfl (pb_Tok.cons dX4_worksUses_38 rfl (pb_Tok.cons dX4_worksUses_39 rfl (pb_Tok.cons dX4_worksUses_40 rfl (pb_Tok.cons dX4_worksUses_43 rfl (pb_Tok.cons dX4_worksUses_46 rfl (pb_Tok.cons dX4_worksUses_47 rfl (pb_Tok.cons dX4_worksUses_50 rfl (pb_Tok.cons dX4_worksUses_51 rfl (pb_Tok.cons dX4_worksUses_52 rfl (pb_Tok.cons dX4_worksUses_55 rfl (pb_Tok.cons dX4_worksUses_56 rfl (pb_Tok.cons dX4_worksUses_59 rfl (pb_Tok.cons dX4_worksUses_62 rfl (pb_Tok.cons dX4_worksUses_63 rfl (pb_Tok.cons dX4_worksUses_64 rfl (pb_Tok.cons dX4_worksUses_67 rfl (pb_Tok.cons dX4_worksUses_68 rfl (pb_Tok.cons dX4_worksUses_71 rfl (pb_Tok.cons dX4_worksUses_74 rfl (pb_Tok.cons dX4_worksUses_77 rfl (pb_Tok.cons dX4_worksUses_80 rfl pb_Tok.nil))))))))))))))))))))))))))))))))))))))))))
def tX4_useOf_0 : pb_T := [(0, .iload_n 1, 1, 0), (1, .istore_n 2, 2, 0), (2, .iconst 0, 3, 0), (3, .istore_n 3, 4, 0), (4, .iconst 0, 5, 0), (5, .istore 4, 7, 0), (7, .iconst 0, 8, 0), (8, .istore 5, 10, 0), (10, .iload 5, 12, 1), (12, .iconst 4, 13, 0), (13, .if_icmp .ge 108, 16, 121), (16, .iload_n 2, 17, 0), (17, .bipush 7, 19, 0), (19, .irem, 20, 0), (20, .istore 6, 22, 0), (22, .iload_n 2, 23, 0), (23, .bipush 7, 25, 0), (25, .idiv, 26, 0), (26, .istore_n 2, 27, 0), (27, .iload 6, 29, 0), (29, .bipush 6, 31, 0), (31, .if_icmp .ge 84, 34, 115), (34, .aload_n 0, 35, 0), (35, .iload 6, 37, 0), (37, .invokevirtual 84, 40, 0), (40, .ifCond .eq 45, 43, 85), (43, .aload_n 0, 44, 0), (44, .iload 6, 46, 0), (46, .invokevirtual 81, 49, 0), (49, .ifCond .ne 36, 52, 85), (52, .aload_n 0, 53, 0), (53, .iload 6, 55, 0), (55, .invokevirtual 62, 58, 0), (58, .iconst 2, 59, 0), (59, .if_icmp .lt 26, 62, 85), (62, .aload_n 0, 63, 0), (63, .iload 6, 65, 0), (65, .invokevirtual 62, 68, 0), (68, .aload_n 0, 69, 0), (69, .getfield 9, 72, 0), (72, .bipush 17, 74, 0), (74, .iload 5, 76, 0), (76, .iadd, 77, 0), (77, .iaload, 78, 0), (78, .if_icmp .gt 7, 81, 85), (81, .iconst 1, 82, 0), (82, .goto 4, 85, 86), (85, .iconst 0, 86, 0), (86, .istore 7, 88, 0), (88, .iload 7, 90, 0), (90, .ifCond .eq 13, 93, 103), (93, .iload_n 3, 94, 0), (94, .iload 6, 96, 0), (96, .ishr, 97, 0), (97, .iconst 1, 98, 0), (98, .iand, 99, 0), (99, .iconst 1, 100, 0), (100, .if_icmp .ne 5, 103, 105), (103, .iconst (-1), 104, 0), (104, .ireturn, 105, 0)]
theorem tX4_useOf_0_ok : pb_Tok cX4_useOf tX4_useOf_0 := pb_Tok.cons dX4_useOf_0 rfl (pb_Tok.cons dX4_useOf_1 rfl (pb_Tok.cons dX4_useOf_2 rfl (pb_Tok.cons dX4_useOf_3 rfl (pb_Tok.cons dX4_useOf_4 rfl (pb_Tok.cons dX4_useOf_5 rfl (pb_Tok.cons dX4_useOf_7 rfl (pb_Tok.cons dX4_useOf_8 rfl (pb_Tok.cons dX4_useOf_10 rfl (pb_Tok.cons dX4_useOf_12 rfl (pb_Tok.cons dX4_useOf_13 rfl (pb_Tok.cons dX4_useOf_16 rfl (pb_Tok.cons dX4_useOf_17 rfl (pb_Tok.cons dX4_useOf_19 rfl (pb_Tok.cons dX4_useOf_20 rfl (pb_Tok.cons dX4_useOf_22 rfl (pb_Tok.cons dX4_useOf_23 rfl (pb_Tok.cons dX4_useOf_25 rfl (pb_Tok.cons dX4_useOf_26 rfl (pb_Tok.cons dX4_useOf_27 rfl (pb_Tok.cons dX4_useOf_29 rfl (pb_Tok.cons dX4_useOf_31 rfl (pb_Tok.cons dX4_useOf_34 rfl (pb_Tok.cons dX4_useOf_35 rfl (pb_Tok.cons dX4_useOf_37 rfl (pb_Tok.cons dX4_useOf_40 rfl (pb_Tok.cons dX4_useOf_43 rfl (pb_Tok.cons dX4_useOf_44 rfl (pb_Tok.cons dX4_useOf_46 rfl (pb_Tok.cons dX4_useOf_49 rfl (pb_Tok.cons dX4_useOf_52 rfl (pb_Tok.cons dX4_useOf_53 rfl (pb_Tok.cons dX4_useOf_55 rfl (pb_Tok.cons dX4_useOf_58 rfl (pb_Tok.cons dX4_useOf_59 rfl (pb_Tok.cons dX4_useOf_62 rfl (pb_Tok.cons dX4_useOf_63 rfl (pb_Tok.cons dX4_useOf_65 rfl (pb_Tok.cons dX4_useOf_68 rfl (pb_Tok.cons dX4_useOf_69 rfl (pb_Tok.cons dX4_useOf_72 rfl (pb_Tok.cons dX4_useOf_74 rfl (pb_Tok.cons dX4_useOf_76 rfl (pb_Tok.cons dX4_useOf_77 rfl (pb_Tok.cons dX4_useOf_78 rfl (pb_Tok.cons dX4_useOf_81 rfl (pb_Tok.cons dX4_useOf_82 rfl (pb_Tok.cons dX4_useOf_85 rfl (pb_Tok.cons dX4_useOf_86 rfl (pb_Tok.cons dX4_useOf_88 rfl (pb_Tok.cons dX4_useOf_90 rfl (pb_Tok.cons dX4_useOf_93 rfl (pb_Tok.cons dX4_useOf_94 rfl (pb_Tok.cons dX4_useOf_96 rfl (pb_Tok.cons dX4_useOf_97 rfl (pb_Tok.cons dX4_useOf_98 rfl (pb_Tok.cons dX4_useOf_99 rfl (pb_Tok.cons dX4_useOf_100 rfl (pb_Tok.cons dX4_useOf_103 rfl (pb_Tok.cons dX4_useOf_104 rfl pb_Tok.nil)))))))))))))))))))))))))))))))))))))))))))))))))))))))))))
def tX4_useOf_1 : pb_T := [(105, .iload_n 3, 106, 0), (106, .iconst 1, 107, 0), (107, .iload 6, 109, 0), (109, .ishl, 110, 0), (110, .ior, 111, 0), (111, .istore_n 3, 112, 0), (112, .iinc 4 1, 115, 0), (115, .iinc 5 1, 118, 0), (118, .goto (-108), 121, 10), (121, .iload 4, 123, 0), (123, .ireturn, 124, 0)]
theorem tX4_useOf_1_ok : pb_Tok cX4_useOf tX4_useOf_1 := pb_Tok.cons dX4_useOf_105 rfl (pb_Tok.cons dX4_useOf_106 rfl (pb_Tok.cons dX4_useOf_107 rfl (pb_Tok.cons dX4_useOf_109 rfl (pb_Tok.cons dX4_useOf_110 rfl (pb_Tok.cons dX4_useOf_111 rfl (pb_Tok.cons dX4_useOf_112 rfl (pb_Tok.cons dX4_useOf_115 rfl (pb_Tok.cons dX4_useOf_118 rfl (pb_Tok.cons dX4_useOf_121 rfl (pb_Tok.cons dX4_useOf_123 rfl pb_Tok.nil))))))))))
def tX4_useOf : pb_T := tX4_useOf_0 ++ (tX4_useOf_1)
theorem tX4_useOf_ok : pb_Tok cX4_useOf tX4_useOf := pb_Tok.app tX4_useOf_0_ok (tX4_useOf_1_ok)
def tX4_mostOnSlipsByLengths : pb_T := [(0, .aload_n 0, 1, 0), (1, .invokevirtual 210, 4, 0), (4, .ireturn, 5, 0)]
theorem tX4_mostOnSlipsByLengths_ok : pb_Tok cX4_mostOnSlipsByLengths tX4_mostOnSlipsByLengths := pb_Tok.cons dX4_mostOnSlipsByLengths_0 rfl (pb_Tok.cons dX4_mostOnSlipsByLengths_1 rfl (pb_Tok.cons dX4_mostOnSlipsByLengths_4 rfl pb_Tok.nil))
def tX4_bestUses : pb_T := [(0, .aload_n 0, 1, 0), (1, .iconst 0, 2, 0), (2, .putfield 48, 5, 0), (5, .aload_n 0, 6, 0), (6, .invokevirtual 207, 9, 0), (9, .aload_n 0, 10, 0), (10, .getfield 200, 13, 0), (13, .l2i, 14, 0), (14, .ireturn, 15, 0)]
theorem tX4_bestUses_ok : pb_Tok cX4_bestUses tX4_bestUses := pb_Tok.cons dX4_bestUses_0 rfl (pb_Tok.cons dX4_bestUses_1 rfl (pb_Tok.cons dX4_bestUses_2 rfl (pb_Tok.cons dX4_bestUses_5 rfl (pb_Tok.cons dX4_bestUses_6 rfl (pb_Tok.cons dX4_bestUses_9 rfl (pb_Tok.cons dX4_bestUses_10 rfl (pb_Tok.cons dX4_bestUses_13 rfl (pb_Tok.cons dX4_bestUses_14 rfl pb_Tok.nil))))))))
def tX4_orderCount : pb_T := [(0, .aload_n 0, 1, 0), (1, .iconst 0, 2, 0), (2, .putfield 48, 5, 0), (5, .aload_n 0, 6, 0), (6, .getfield 9, 9, 0), (9, .iconst 2, 10, 0), (10, .iaload, 11, 0), (11, .ireturn, 12, 0)]
theorem tX4_orderCount_ok : pb_Tok cX4_orderCount tX4_orderCount := pb_Tok.cons dX4_orderCount_0 rfl (pb_Tok.cons dX4_orderCount_1 rfl (pb_Tok.cons dX4_orderCount_2 rfl (pb_Tok.cons dX4_orderCount_5 rfl (pb_Tok.cons dX4_orderCount_6 rfl (pb_Tok.cons dX4_orderCount_9 rfl (pb_Tok.cons dX4_orderCount_10 rfl (pb_Tok.cons dX4_orderCount_11 rfl pb_Tok.nil)))))))
def tX4_orderAt : pb_T := [(0, .aload_n 0, 1, 0), (1, .iconst 0, 2, 0), (2, .putfield 48, 5, 0), (5, .iload_n 1, 6, 0), (6, .i2l, 7, 0), (7, .lconst 0, 8, 0), (8, .aload_n 0, 9, 0), (9, .getfield 9, 12, 0), (12, .iconst 2, 13, 0), (13, .iaload, 14, 0), (14, .iconst 1, 15, 0), (15, .isub, 16, 0), (16, .i2l, 17, 0), (17, .invokestatic 54, 20, 0), (20, .ifCond .eq 18, 23, 38), (23, .aload_n 0, 24, 0), (24, .getfield 9, 27, 0), (27, .sipush 189, 30, 0), (30, .iconst 4, 31, 0), (31, .iload_n 1, 32, 0), (32, .imul, 33, 0), (33, .iadd, 34, 0), (34, .iaload, 35, 0), (35, .goto 8, 38, 43), (38, .aload_n 0, 39, 0), (39, .iconst 1, 40, 0), (40, .invokevirtual 88, 43, 0), (43, .ireturn, 44, 0)]
theorem tX4_orderAt_ok : pb_Tok cX4_orderAt tX4_orderAt := pb_Tok.cons dX4_orderAt_0 rfl (pb_Tok.cons dX4_orderAt_1 rfl (pb_Tok.cons dX4_orderAt_2 rfl (pb_Tok.cons dX4_orderAt_5 rfl (pb_Tok.cons dX4_orderAt_6 rfl (pb_Tok.cons dX4_orderAt_7 rfl (pb_Tok.cons dX4_orderAt_8 rfl (pb_Tok.cons dX4_orderAt_9 rfl (pb_Tok.cons dX4_orderAt_12 rfl (pb_Tok.cons dX4_orderAt_13 rfl (pb_Tok.cons dX4_orderAt_14 rfl (pb_Tok.cons dX4_orderAt_15 rfl (pb_Tok.cons dX4_orderAt_16 rfl (pb_Tok.cons dX4_orderAt_17 rfl (pb_Tok.cons dX4_orderAt_20 rfl (pb_Tok.cons dX4_orderAt_23 rfl (pb_Tok.cons dX4_orderAt_24 rfl (pb_Tok.cons dX4_orderAt_27 rfl (pb_Tok.cons dX4_orderAt_30 rfl (pb_Tok.cons dX4_orderAt_31 rfl (pb_Tok.cons dX4_orderAt_32 rfl (pb_Tok.cons dX4_orderAt_33 rfl (pb_Tok.cons dX4_orderAt_34 rfl (pb_Tok.cons dX4_orderAt_35 rfl (pb_Tok.cons dX4_orderAt_38 rfl (pb_Tok.cons dX4_orderAt_39 rfl (pb_Tok.cons dX4_orderAt_40 rfl (pb_Tok.cons dX4_orderAt_43 rfl pb_Tok.nil)))))))))))))))))))))))))))
def tX4_coinsFor : pb_T := [(0, .aload_n 0, 1, 0), (1, .iconst 0, 2, 0), (2, .putfield 48, 5, 0), (5, .aload_n 0, 6, 0), (6, .iload_n 1, 7, 0), (7, .invokevirtual 166, 10, 0), (10, .istore_n 2, 11, 0), (11, .iload_n 2, 12, 0), (12, .iconst (-1), 13, 0), (13, .if_icmp .ne 11, 16, 24), (16, .aload_n 0, 17, 0), (17, .iconst 1, 18, 0), (18, .invokevirtual 88, 21, 0), (21, .goto 8, 24, 29), (24, .aload_n 0, 25, 0), (25, .iload_n 2, 26, 0), (26, .invokevirtual 169, 29, 0), (29, .ireturn, 30, 0)]
theorem tX4_coinsFor_ok : pb_Tok cX4_coinsFor tX4_coinsFor := pb_Tok.cons dX4_coinsFor_0 rfl (pb_Tok.cons dX4_coinsFor_1 rfl (pb_Tok.cons dX4_coinsFor_2 rfl (pb_Tok.cons dX4_coinsFor_5 rfl (pb_Tok.cons dX4_coinsFor_6 rfl (pb_Tok.cons dX4_coinsFor_7 rfl (pb_Tok.cons dX4_coinsFor_10 rfl (pb_Tok.cons dX4_coinsFor_11 rfl (pb_Tok.cons dX4_coinsFor_12 rfl (pb_Tok.cons dX4_coinsFor_13 rfl (pb_Tok.cons dX4_coinsFor_16 rfl (pb_Tok.cons dX4_coinsFor_17 rfl (pb_Tok.cons dX4_coinsFor_18 rfl (pb_Tok.cons dX4_coinsFor_21 rfl (pb_Tok.cons dX4_coinsFor_24 rfl (pb_Tok.cons dX4_coinsFor_25 rfl (pb_Tok.cons dX4_coinsFor_26 rfl (pb_Tok.cons dX4_coinsFor_29 rfl pb_Tok.nil)))))))))))))))))
def tX4_bestDelivery_0 : pb_T := [(0, .aload_n 0, 1, 0), (1, .iconst 0, 2, 0), (2, .putfield 48, 5, 0), (5, .iconst 0, 6, 0), (6, .istore_n 1, 7, 0), (7, .iconst 0, 8, 0), (8, .istore_n 2, 9, 0), (9, .iload_n 2, 10, 1), (10, .aload_n 0, 11, 0), (11, .getfield 9, 14, 0), (14, .iconst 2, 15, 0), (15, .iaload, 16, 0), (16, .if_icmp .ge 93, 19, 109), (19, .iconst 0, 20, 0), (20, .istore_n 3, 21, 0), (21, .iconst 0, 22, 0), (22, .istore 4, 24, 0), (24, .iload 4, 26, 1), (26, .aload_n 0, 27, 0), (27, .getfield 9, 30, 0), (30, .iconst 0, 31, 0), (31, .iaload, 32, 0), (32, .if_icmp .ge 50, 35, 82), (35, .iload_n 3, 36, 0), (36, .aload_n 0, 37, 0), (37, .iload 4, 39, 0), (39, .invokevirtual 81, 42, 0), (42, .iconst 1, 43, 0), (43, .if_icmp .ne 30, 46, 73), (46, .aload_n 0, 47, 0), (47, .iload 4, 49, 0), (49, .invokevirtual 62, 52, 0), (52, .aload_n 0, 53, 0), (53, .getfield 9, 56, 0), (56, .sipush 189, 59, 0), (59, .iconst 4, 60, 0), (60, .iload_n 2, 61, 0), (61, .imul, 62, 0), (62, .iadd, 63, 0), (63, .iconst 1, 64, 0), (64, .iadd, 65, 0), (65, .iaload, 66, 0), (66, .if_icmp .ne 7, 69, 73), (69, .iconst 1, 70, 0), (70, .goto 4, 73, 74), (73, .iconst 0, 74, 0), (74, .iadd, 75, 0), (75, .istore_n 3, 76, 0), (76, .iinc 4 1, 79, 0), (79, .goto (-55), 82, 24), (82, .iload_n 1, 83, 0), (83, .aload_n 0, 84, 0), (84, .iload_n 2, 85, 0), (85, .invokevirtual 213, 88, 0), (88, .iload_n 3, 89, 0), (89, .if_icmp .ge 11, 92, 100), (92, .aload_n 0, 93, 0), (93, .iload_n 2, 94, 0), (94, .invokevirtual 169, 97, 0), (97, .goto 4, 100, 101)]
theorem tX4_bestDelivery_0_ok : pb_Tok cX4_bestDelivery tX4_bestDelivery_0 := pb_Tok.cons dX4_bestDelivery_0 rfl (pb_Tok.cons dX4_bestDelivery_1 rfl (pb_Tok.cons dX4_bestDelivery_2 rfl (pb_Tok.cons dX4_bestDelivery_5 rfl (pb_Tok.cons dX4_bestDelivery_6 rfl (pb_Tok.cons dX4_bestDelivery_7 rfl (pb_Tok.cons dX4_bestDelivery_8 rfl (pb_Tok.cons dX4_bestDelivery_9 rfl (pb_Tok.cons dX4_bestDelivery_10 rfl (pb_Tok.cons dX4_bestDelivery_11 rfl (pb_Tok.cons dX4_bestDelivery_14 rfl (pb_Tok.cons dX4_bestDelivery_15 rfl (pb_Tok.cons dX4_bestDelivery_16 rfl (pb_Tok.cons dX4_bestDelivery_19 rfl (pb_Tok.cons dX4_bestDelivery_20 rfl (pb_Tok.cons dX4_bestDelivery_21 rfl (pb_Tok.cons dX4_bestDelivery_22 rfl (pb_Tok.cons dX4_bestDelivery_24 rfl (pb_Tok.cons dX4_bestDelivery_26 rfl (pb_Tok.cons dX4_bestDelivery_27 rfl (pb_Tok.cons dX4_bestDelivery_30 rfl (pb_Tok.cons dX4_bestDelivery_31 rfl (pb_Tok.cons dX4_bestDelivery_32 rfl (pb_Tok.cons dX4_bestDelivery_35 rfl (pb_Tok.cons dX4_bestDelivery_36 rfl (pb_Tok.cons dX4_bestDelivery_37 rfl (pb_Tok.cons dX4_bestDelivery_39 rfl (pb_Tok.cons dX4_bestDelivery_42 rfl (pb_Tok.cons dX4_bestDelivery_43 rfl (pb_Tok.cons dX4_bestDelivery_46 rfl (pb_Tok.cons dX4_bestDelivery_47 rfl (pb_Tok.cons dX4_bestDelivery_49 rfl (pb_Tok.cons dX4_bestDelivery_52 rfl (pb_Tok.cons dX4_bestDelivery_53 rfl (pb_Tok.cons dX4_bestDelivery_56 rfl (pb_Tok.cons dX4_bestDelivery_59 rfl (pb_Tok.cons dX4_bestDelivery_60 rfl (pb_Tok.cons dX4_bestDelivery_61 rfl (pb_Tok.cons dX4_bestDelivery_62 rfl (pb_Tok.cons dX4_bestDelivery_63 rfl (pb_Tok.cons dX4_bestDelivery_64 rfl (pb_Tok.cons dX4_bestDelivery_65 rfl (pb_Tok.cons dX4_bestDelivery_66 rfl (pb_Tok.cons dX4_bestDelivery_69 rfl (pb_Tok.cons dX4_bestDelivery_70 rfl (pb_Tok.cons dX4_bestDelivery_73 rfl (pb_Tok.cons dX4_bestDelivery_74 rfl (pb_Tok.cons dX4_bestDelivery_75 rfl (pb_Tok.cons dX4_bestDelivery_76 rfl (pb_Tok.cons dX4_bestDelivery_79 rfl (pb_Tok.cons dX4_bestDelivery_82 rfl (pb_Tok.cons dX4_bestDelivery_83 rfl (pb_Tok.cons dX4_bestDelivery_84 rfl (pb_Tok.cons dX4_bestDelivery_85 rfl (pb_Tok.cons dX4_bestDelivery_88 rfl (pb_Tok.cons dX4_bestDelivery_89 rfl (pb_Tok.cons dX4_bestDelivery_92 rfl (pb_Tok.cons dX4_bestDelivery_93 rfl (pb_Tok.cons dX4_bestDelivery_94 rfl (pb_Tok.cons dX4_bestDelivery_97 rfl pb_Tok.nil)))))))))))))))))))))))))))))))))))))))))))))))))))))))))))
def tX4_bestDelivery_1 : pb_T := [(100, .iconst 0, 101, 0), (101, .iadd, 102, 0), (102, .istore_n 1, 103, 0), (103, .iinc 2 1, 106, 0), (106, .goto (-97), 109, 9), (109, .iload_n 1, 110, 0), (110, .ireturn, 111, 0)]
theorem tX4_bestDelivery_1_ok : pb_Tok cX4_bestDelivery tX4_bestDelivery_1 := pb_Tok.cons dX4_bestDelivery_100 rfl (pb_Tok.cons dX4_bestDelivery_101 rfl (pb_Tok.cons dX4_bestDelivery_102 rfl (pb_Tok.cons dX4_bestDelivery_103 rfl (pb_Tok.cons dX4_bestDelivery_106 rfl (pb_Tok.cons dX4_bestDelivery_109 rfl (pb_Tok.cons dX4_bestDelivery_110 rfl pb_Tok.nil))))))
def tX4_bestDelivery : pb_T := tX4_bestDelivery_0 ++ (tX4_bestDelivery_1)
theorem tX4_bestDelivery_ok : pb_Tok cX4_bestDelivery tX4_bestDelivery := pb_Tok.app tX4_bestDelivery_0_ok (tX4_bestDelivery_1_ok)
def tX4_before_0 : pb_T := [(0, .iconst 0, 1, 0), (1, .istore_n 2, 2, 0), (2, .iconst 0, 3, 0), (3, .istore_n 3, 4, 0), (4, .iload_n 3, 5, 1), (5, .aload_n 0, 6, 0), (6, .getfield 9, 9, 0), (9, .iconst 2, 10, 0), (10, .iaload, 11, 0), (11, .if_icmp .ge 91, 14, 102), (14, .aload_n 0, 15, 0), (15, .getfield 9, 18, 0), (18, .sipush 189, 21, 0), (21, .iconst 4, 22, 0), (22, .iload_n 3, 23, 0), (23, .imul, 24, 0), (24, .iadd, 25, 0), (25, .iconst 1, 26, 0), (26, .iadd, 27, 0), (27, .iaload, 28, 0), (28, .aload_n 0, 29, 0), (29, .getfield 9, 32, 0), (32, .sipush 189, 35, 0), (35, .iconst 4, 36, 0), (36, .iload_n 1, 37, 0), (37, .imul, 38, 0), (38, .iadd, 39, 0), (39, .iconst 1, 40, 0), (40, .iadd, 41, 0), (41, .iaload, 42, 0), (42, .if_icmp .ne 7, 45, 49), (45, .iconst 1, 46, 0), (46, .goto 4, 49, 50), (49, .iconst 0, 50, 0), (50, .istore 4, 52, 0), (52, .iload_n 2, 53, 0), (53, .iload 4, 55, 0), (55, .ifCond .eq 38, 58, 93), (58, .aload_n 0, 59, 0), (59, .iload_n 3, 60, 0), (60, .invokevirtual 169, 63, 0), (63, .aload_n 0, 64, 0), (64, .iload_n 1, 65, 0), (65, .invokevirtual 169, 68, 0), (68, .if_icmp .gt 21, 71, 89), (71, .aload_n 0, 72, 0), (72, .iload_n 3, 73, 0), (73, .invokevirtual 169, 76, 0), (76, .aload_n 0, 77, 0), (77, .iload_n 1, 78, 0), (78, .invokevirtual 169, 81, 0), (81, .if_icmp .ne 12, 84, 93), (84, .iload_n 3, 85, 0), (85, .iload_n 1, 86, 0), (86, .if_icmp .ge 7, 89, 93), (89, .iconst 1, 90, 0), (90, .goto 4, 93, 94), (93, .iconst 0, 94, 0), (94, .iadd, 95, 0), (95, .istore_n 2, 96, 0)]
theorem tX4_before_0_ok : pb_Tok cX4_before tX4_before_0 := pb_Tok.cons dX4_before_0 rfl (pb_Tok.cons dX4_before_1 rfl (pb_Tok.cons dX4_before_2 rfl (pb_Tok.cons dX4_before_3 rfl (pb_Tok.cons dX4_before_4 rfl (pb_Tok.cons dX4_before_5 rfl (pb_Tok.cons dX4_before_6 rfl (pb_Tok.cons dX4_before_9 rfl (pb_Tok.cons dX4_before_10 rfl (pb_Tok.cons dX4_before_11 rfl (pb_Tok.cons dX4_before_14 rfl (pb_Tok.cons dX4_before_15 rfl (pb_Tok.cons dX4_before_18 rfl (pb_Tok.cons dX4_before_21 rfl (pb_Tok.cons dX4_before_22 rfl (pb_Tok.cons dX4_before_23 rfl (pb_Tok.cons dX4_before_24 rfl (pb_Tok.cons dX4_before_25 rfl (pb_Tok.cons dX4_before_26 rfl (pb_Tok.cons dX4_before_27 rfl (pb_Tok.cons dX4_before_28 rfl (pb_Tok.cons dX4_before_29 rfl (pb_Tok.cons dX4_before_32 rfl (pb_Tok.cons dX4_before_35 rfl (pb_Tok.cons dX4_before_36 rfl (pb_Tok.cons dX4_before_37 rfl (pb_Tok.cons dX4_before_38 rfl (pb_Tok.cons dX4_before_39 rfl (pb_Tok.cons dX4_before_40 rfl (pb_Tok.cons dX4_before_41 rfl (pb_Tok.cons dX4_before_42 rfl (pb_Tok.cons dX4_before_45 rfl (pb_Tok.cons dX4_before_46 rfl (pb_Tok.cons dX4_before_49 rfl (pb_Tok.cons dX4_before_50 rfl (pb_Tok.cons dX4_before_52 rfl (pb_Tok.cons dX4_before_53 rfl (pb_Tok.cons dX4_before_55 rfl (pb_Tok.cons dX4_before_58 rfl (pb_Tok.cons dX4_before_59 rfl (pb_Tok.cons dX4_before_60 rfl (pb_Tok.cons dX4_before_63 rfl (pb_Tok.cons dX4_before_64 rfl (pb_Tok.cons dX4_before_65 rfl (pb_Tok.cons dX4_before_68 rfl (pb_Tok.cons dX4_before_71 rfl (pb_Tok.cons dX4_before_72 rfl (pb_Tok.cons dX4_before_73 rfl (pb_Tok.cons dX4_before_76 rfl (pb_Tok.cons dX4_before_77 rfl (pb_Tok.cons dX4_before_78 rfl (pb_Tok.cons dX4_before_81 rfl (pb_Tok.cons dX4_before_84 rfl (pb_Tok.cons dX4_before_85 rfl (pb_Tok.cons dX4_before_86 rfl (pb_Tok.cons dX4_before_89 rfl (pb_Tok.cons dX4_before_90 rfl (pb_Tok.cons dX4_before_93 rfl (pb_Tok.cons dX4_before_94 rfl (pb_Tok.cons dX4_before_95 rfl pb_Tok.nil)))))))))))))))))))))))))))))))))))))))))))))))))))))))))))
def tX4_before_1 : pb_T := [(96, .iinc 3 1, 99, 0), (99, .goto (-95), 102, 4), (102, .iload_n 2, 103, 0), (103, .ireturn, 104, 0)]
theorem tX4_before_1_ok : pb_Tok cX4_before tX4_before_1 := pb_Tok.cons dX4_before_96 rfl (pb_Tok.cons dX4_before_99 rfl (pb_Tok.cons dX4_before_102 rfl (pb_Tok.cons dX4_before_103 rfl pb_Tok.nil)))
def tX4_before : pb_T := tX4_before_0 ++ (tX4_before_1)
theorem tX4_before_ok : pb_Tok cX4_before tX4_before := pb_Tok.app tX4_before_0_ok (tX4_before_1_ok)
def tX4_paidCoins : pb_T := [(0, .aload_n 0, 1, 0), (1, .iconst 0, 2, 0), (2, .putfield 48, 5, 0), (5, .aload_n 0, 6, 0), (6, .getfield 9, 9, 0), (9, .iconst 4, 10, 0), (10, .iaload, 11, 0), (11, .i2l, 12, 0), (12, .lreturn, 13, 0)]
theorem tX4_paidCoins_ok : pb_Tok cX4_paidCoins tX4_paidCoins := pb_Tok.cons dX4_paidCoins_0 rfl (pb_Tok.cons dX4_paidCoins_1 rfl (pb_Tok.cons dX4_paidCoins_2 rfl (pb_Tok.cons dX4_paidCoins_5 rfl (pb_Tok.cons dX4_paidCoins_6 rfl (pb_Tok.cons dX4_paidCoins_9 rfl (pb_Tok.cons dX4_paidCoins_10 rfl (pb_Tok.cons dX4_paidCoins_11 rfl (pb_Tok.cons dX4_paidCoins_12 rfl pb_Tok.nil))))))))
def tX4_hullsIn : pb_T := [(0, .aload_n 0, 1, 0), (1, .iconst 0, 2, 0), (2, .putfield 48, 5, 0), (5, .iload_n 1, 6, 0), (6, .i2l, 7, 0), (7, .lconst 0, 8, 0), (8, .ldc2_w 157, 11, 0), (11, .invokestatic 54, 14, 0), (14, .ifCond .ne 9, 17, 23), (17, .aload_n 0, 18, 0), (18, .iconst 1, 19, 0), (19, .invokevirtual 88, 22, 0), (22, .ireturn, 23, 0), (23, .iconst 0, 24, 0), (24, .istore_n 2, 25, 0), (25, .iconst 0, 26, 0), (26, .istore_n 3, 27, 0), (27, .iload_n 3, 28, 1), (28, .aload_n 0, 29, 0), (29, .getfield 9, 32, 0), (32, .iconst 0, 33, 0), (33, .iaload, 34, 0), (34, .if_icmp .ge 26, 37, 60), (37, .iload_n 2, 38, 0), (38, .aload_n 0, 39, 0), (39, .iload_n 3, 40, 0), (40, .invokevirtual 81, 43, 0), (43, .iload_n 1, 44, 0), (44, .if_icmp .ne 7, 47, 51), (47, .iconst 1, 48, 0), (48, .goto 4, 51, 52), (51, .iconst 0, 52, 0), (52, .iadd, 53, 0), (53, .istore_n 2, 54, 0), (54, .iinc 3 1, 57, 0), (57, .goto (-30), 60, 27), (60, .iload_n 2, 61, 0), (61, .ireturn, 62, 0)]
theorem tX4_hullsIn_ok : pb_Tok cX4_hullsIn tX4_hullsIn := pb_Tok.cons dX4_hullsIn_0 rfl (pb_Tok.cons dX4_hullsIn_1 rfl (pb_Tok.cons dX4_hullsIn_2 rfl (pb_Tok.cons dX4_hullsIn_5 rfl (pb_Tok.cons dX4_hullsIn_6 rfl (pb_Tok.cons dX4_hullsIn_7 rfl (pb_Tok.cons dX4_hullsIn_8 rfl (pb_Tok.cons dX4_hullsIn_11 rfl (pb_Tok.cons dX4_hullsIn_14 rfl (pb_Tok.cons dX4_hullsIn_17 rfl (pb_Tok.cons dX4_hullsIn_18 rfl (pb_Tok.cons dX4_hullsIn_19 rfl (pb_Tok.cons dX4_hullsIn_22 rfl (pb_Tok.cons dX4_hullsIn_23 rfl (pb_Tok.cons dX4_hullsIn_24 rfl (pb_Tok.cons dX4_hullsIn_25 rfl (pb_Tok.cons dX4_hullsIn_26 rfl (pb_Tok.cons dX4_hullsIn_27 rfl (pb_Tok.cons dX4_hullsIn_28 rfl (pb_Tok.cons dX4_hullsIn_29 rfl (pb_Tok.cons dX4_hullsIn_32 rfl (pb_Tok.cons dX4_hullsIn_33 rfl (pb_Tok.cons dX4_hullsIn_34 rfl (pb_Tok.cons dX4_hullsIn_37 rfl (pb_Tok.cons dX4_hullsIn_38 rfl (pb_Tok.cons dX4_hullsIn_39 rfl (pb_Tok.cons dX4_hullsIn_40 rfl (pb_Tok.cons dX4_hullsIn_43 rfl (pb_Tok.cons dX4_hullsIn_44 rfl (pb_Tok.cons dX4_hullsIn_47 rfl (pb_Tok.cons dX4_hullsIn_48 rfl (pb_Tok.cons dX4_hullsIn_51 rfl (pb_Tok.cons dX4_hullsIn_52 rfl (pb_Tok.cons dX4_hullsIn_53 rfl (pb_Tok.cons dX4_hullsIn_54 rfl (pb_Tok.cons dX4_hullsIn_57 rfl (pb_Tok.cons dX4_hullsIn_60 rfl (pb_Tok.cons dX4_hullsIn_61 rfl pb_Tok.nil)))))))))))))))))))))))))))))))))))))
def tX4_refusalReason : pb_T := [(0, .aload_n 0, 1, 0), (1, .iconst 0, 2, 0), (2, .putfield 48, 5, 0), (5, .aload_n 0, 6, 0), (6, .getfield 126, 9, 0), (9, .ifCond .ne 11, 12, 20), (12, .aload_n 0, 13, 0), (13, .iconst 1, 14, 0), (14, .invokevirtual 88, 17, 0), (17, .goto 7, 20, 24), (20, .aload_n 0, 21, 0), (21, .getfield 126, 24, 0), (24, .ireturn, 25, 0)]
theorem tX4_refusalReason_ok : pb_Tok cX4_refusalReason tX4_refusalReason := pb_Tok.cons dX4_refusalReason_0 rfl (pb_Tok.cons dX4_refusalReason_1 rfl (pb_Tok.cons dX4_refusalReason_2 rfl (pb_Tok.cons dX4_refusalReason_5 rfl (pb_Tok.cons dX4_refusalReason_6 rfl (pb_Tok.cons dX4_refusalReason_9 rfl (pb_Tok.cons dX4_refusalReason_12 rfl (pb_Tok.cons dX4_refusalReason_13 rfl (pb_Tok.cons dX4_refusalReason_14 rfl (pb_Tok.cons dX4_refusalReason_17 rfl (pb_Tok.cons dX4_refusalReason_20 rfl (pb_Tok.cons dX4_refusalReason_21 rfl (pb_Tok.cons dX4_refusalReason_24 rfl pb_Tok.nil))))))))))))
def tX4_meanWeight : pb_T := [(0, .aload_n 0, 1, 0), (1, .iconst 0, 2, 0), (2, .putfield 48, 5, 0), (5, .aload_n 0, 6, 0), (6, .getfield 9, 9, 0), (9, .iconst 0, 10, 0), (10, .iaload, 11, 0), (11, .ifCond .ne 11, 14, 22), (14, .aload_n 0, 15, 0), (15, .iconst 1, 16, 0), (16, .invokevirtual 88, 19, 0), (19, .pop, 20, 0), (20, .dconst 0, 21, 0), (21, .dreturn, 22, 0), (22, .iconst 0, 23, 0), (23, .istore_n 1, 24, 0), (24, .iconst 0, 25, 0), (25, .istore_n 2, 26, 0), (26, .iload_n 2, 27, 1), (27, .aload_n 0, 28, 0), (28, .getfield 9, 31, 0), (31, .iconst 0, 32, 0), (32, .iaload, 33, 0), (33, .if_icmp .ge 17, 36, 50), (36, .iload_n 1, 37, 0), (37, .aload_n 0, 38, 0), (38, .iload_n 2, 39, 0), (39, .invokevirtual 117, 42, 0), (42, .iadd, 43, 0), (43, .istore_n 1, 44, 0), (44, .iinc 2 1, 47, 0), (47, .goto (-21), 50, 26), (50, .iload_n 1, 51, 0), (51, .i2d, 52, 0), (52, .aload_n 0, 53, 0), (53, .getfield 9, 56, 0), (56, .iconst 0, 57, 0), (57, .iaload, 58, 0), (58, .i2d, 59, 0), (59, .ddiv, 60, 0), (60, .dreturn, 61, 0)]
theorem tX4_meanWeight_ok : pb_Tok cX4_meanWeight tX4_meanWeight := pb_Tok.cons dX4_meanWeight_0 rfl (pb_Tok.cons dX4_meanWeight_1 rfl (pb_Tok.cons dX4_meanWeight_2 rfl (pb_Tok.cons dX4_meanWeight_5 rfl (pb_Tok.cons dX4_meanWeight_6 rfl (pb_Tok.cons dX4_meanWeight_9 rfl (pb_Tok.cons dX4_meanWeight_10 rfl (pb_Tok.cons dX4_meanWeight_11 rfl (pb_Tok.cons dX4_meanWeight_14 rfl (pb_Tok.cons dX4_meanWeight_15 rfl (pb_Tok.cons dX4_meanWeight_16 rfl (pb_Tok.cons dX4_meanWeight_19 rfl (pb_Tok.cons dX4_meanWeight_20 rfl (pb_Tok.cons dX4_meanWeight_21 rfl (pb_Tok.cons dX4_meanWeight_22 rfl (pb_Tok.cons dX4_meanWeight_23 rfl (pb_Tok.cons dX4_meanWeight_24 rfl (pb_Tok.cons dX4_meanWeight_25 rfl (pb_Tok.cons dX4_meanWeight_26 rfl (pb_Tok.cons dX4_meanWeight_27 rfl (pb_Tok.cons dX4_meanWeight_28 rfl (pb_Tok.cons dX4_meanWeight_31 rfl (pb_Tok.cons dX4_meanWeight_32 rfl (pb_Tok.cons dX4_meanWeight_33 rfl (pb_Tok.cons dX4_meanWeight_36 rfl (pb_Tok.cons dX4_meanWeight_37 rfl (pb_Tok.cons dX4_meanWeight_38 rfl (pb_Tok.cons dX4_meanWeight_39 rfl (pb_Tok.cons dX4_meanWeight_42 rfl (pb_Tok.cons dX4_meanWeight_43 rfl (pb_Tok.cons dX4_meanWeight_44 rfl (pb_Tok.cons dX4_meanWeight_47 rfl (pb_Tok.cons dX4_meanWeight_50 rfl (pb_Tok.cons dX4_meanWeight_51 rfl (pb_Tok.cons dX4_meanWeight_52 rfl (pb_Tok.cons dX4_meanWeight_53 rfl (pb_Tok.cons dX4_meanWeight_56 rfl (pb_Tok.cons dX4_meanWeight_57 rfl (pb_Tok.cons dX4_meanWeight_58 rfl (pb_Tok.cons dX4_meanWeight_59 rfl (pb_Tok.cons dX4_meanWeight_60 rfl pb_Tok.nil))))))))))))))))))))))))))))))))))))))))
def tX4_writeHull_0 : pb_T := [(0, .aload_n 0, 1, 0), (1, .iconst 0, 2, 0), (2, .putfield 48, 5, 0), (5, .aload_n 0, 6, 0), (6, .iload_n 1, 7, 0), (7, .invokevirtual 84, 10, 0), (10, .ifCond .ne 9, 13, 19), (13, .aload_n 0, 14, 0), (14, .iconst 1, 15, 0), (15, .invokevirtual 88, 18, 0), (18, .ireturn, 19, 0), (19, .aload_n 0, 20, 0), (20, .iload_n 1, 21, 0), (21, .invokevirtual 81, 24, 0), (24, .istore_n 2, 25, 0), (25, .aload_n 0, 26, 0), (26, .iconst 0, 27, 0), (27, .putfield 216, 30, 0), (30, .aload_n 0, 31, 0), (31, .iload_n 1, 32, 0), (32, .invokevirtual 223, 35, 0), (35, .aload_n 0, 36, 0), (36, .iload_n 2, 37, 0), (37, .ifCond .ne 8, 40, 45), (40, .bipush 98, 42, 0), (42, .goto 25, 45, 67), (45, .iload_n 2, 46, 0), (46, .iconst 1, 47, 0), (47, .if_icmp .ne 8, 50, 55), (50, .bipush 97, 52, 0), (52, .goto 15, 55, 67), (55, .iload_n 2, 56, 0), (56, .iconst 2, 57, 0), (57, .if_icmp .ne 8, 60, 65), (60, .bipush 100, 62, 0), (62, .goto 5, 65, 67), (65, .bipush 115, 67, 0), (67, .invokevirtual 219, 70, 0), (70, .iconst 0, 71, 0), (71, .istore_n 3, 72, 0), (72, .iload_n 3, 73, 1), (73, .aload_n 0, 74, 0), (74, .iload_n 1, 75, 0), (75, .invokevirtual 62, 78, 0), (78, .if_icmp .ge 76, 81, 154), (81, .aload_n 0, 82, 0), (82, .bipush 32, 84, 0), (84, .invokevirtual 219, 87, 0), (87, .aload_n 0, 88, 0), (88, .aload_n 0, 89, 0), (89, .iload_n 1, 90, 0), (90, .iload_n 3, 91, 0), (91, .iconst 0, 92, 0), (92, .invokevirtual 71, 95, 0), (95, .invokevirtual 223, 98, 0), (98, .aload_n 0, 99, 0), (99, .bipush 124, 101, 0), (101, .invokevirtual 219, 104, 0), (104, .aload_n 0, 105, 0), (105, .aload_n 0, 106, 0)]
theorem tX4_writeHull_0_ok : pb_Tok cX4_writeHull tX4_writeHull_0 := pb_Tok.cons dX4_writeHull_0 rfl (pb_Tok.cons dX4_writeHull_1 rfl (pb_Tok.cons dX4_writeHull_2 rfl (pb_Tok.cons dX4_writeHull_5 rfl (pb_Tok.cons dX4_writeHull_6 rfl (pb_Tok.cons dX4_writeHull_7 rfl (pb_Tok.cons dX4_writeHull_10 rfl (pb_Tok.cons dX4_writeHull_13 rfl (pb_Tok.cons dX4_writeHull_14 rfl (pb_Tok.cons dX4_writeHull_15 rfl (pb_Tok.cons dX4_writeHull_18 rfl (pb_Tok.cons dX4_writeHull_19 rfl (pb_Tok.cons dX4_writeHull_20 rfl (pb_Tok.cons dX4_writeHull_21 rfl (pb_Tok.cons dX4_writeHull_24 rfl (pb_Tok.cons dX4_writeHull_25 rfl (pb_Tok.cons dX4_writeHull_26 rfl (pb_Tok.cons dX4_writeHull_27 rfl (pb_Tok.cons dX4_writeHull_30 rfl (pb_Tok.cons dX4_writeHull_31 rfl (pb_Tok.cons dX4_writeHull_32 rfl (pb_Tok.cons dX4_writeHull_35 rfl (pb_Tok.cons dX4_writeHull_36 rfl (pb_Tok.cons dX4_writeHull_37 rfl (pb_Tok.cons dX4_writeHull_40 rfl (pb_Tok.cons dX4_writeHull_42 rfl (pb_Tok.cons dX4_writeHull_45 rfl (pb_Tok.cons dX4_writeHull_46 rfl (pb_Tok.cons dX4_writeHull_47 rfl (pb_Tok.cons dX4_writeHull_50 rfl (pb_Tok.cons dX4_writeHull_52 rfl (pb_Tok.cons dX4_writeHull_55 rfl (pb_Tok.cons dX4_writeHull_56 rfl (pb_Tok.cons dX4_writeHull_57 rfl (pb_Tok.cons dX4_writeHull_60 rfl (pb_Tok.cons dX4_writeHull_62 rfl (pb_Tok.cons dX4_writeHull_65 rfl (pb_Tok.cons dX4_writeHull_67 rfl (pb_Tok.cons dX4_writeHull_70 rfl (pb_Tok.cons dX4_writeHull_71 rfl (pb_Tok.cons dX4_writeHull_72 rfl (pb_Tok.cons dX4_writeHull_73 rfl (pb_Tok.cons dX4_writeHull_74 rfl (pb_Tok.cons dX4_writeHull_75 rfl (pb_Tok.cons dX4_writeHull_78 rfl (pb_Tok.cons dX4_writeHull_81 rfl (pb_Tok.cons dX4_writeHull_82 rfl (pb_Tok.cons dX4_writeHull_84 rfl (pb_Tok.cons dX4_writeHull_87 rfl (pb_Tok.cons dX4_writeHull_88 rfl (pb_Tok.cons dX4_writeHull_89 rfl (pb_Tok.cons dX4_writeHull_90 rfl (pb_Tok.cons dX4_writeHull_91 rfl (pb_Tok.cons dX4_writeHull_92 rfl (pb_Tok.cons dX4_writeHull_95 rfl (pb_Tok.cons dX4_writeHull_98 rfl (pb_Tok.cons dX4_writeHull_99 rfl (pb_Tok.cons dX4_writeHull_101 rfl (pb_Tok.cons dX4_writeHull_104 rfl (pb_Tok.cons dX4_writeHull_105 rfl pb_Tok.nil)))))))))))))))))))))))))))))))))))))))))))))))))))))))))))
def tX4_writeHull_1 : pb_T := [(106, .iload_n 1, 107, 0), (107, .iload_n 3, 108, 0), (108, .iconst 1, 109, 0), (109, .invokevirtual 71, 112, 0), (112, .invokevirtual 223, 115, 0), (115, .iload_n 3, 116, 0), (116, .aload_n 0, 117, 0), (117, .iload_n 1, 118, 0), (118, .invokevirtual 78, 121, 0), (121, .if_icmp .ge 27, 124, 148), (124, .aload_n 0, 125, 0), (125, .bipush 126, 127, 0), (127, .invokevirtual 219, 130, 0), (130, .aload_n 0, 131, 0), (131, .aload_n 0, 132, 0), (132, .getfield 9, 135, 0), (135, .iload_n 1, 136, 0), (136, .invokestatic 58, 139, 0), (139, .bipush 20, 141, 0), (141, .iadd, 142, 0), (142, .iload_n 3, 143, 0), (143, .iadd, 144, 0), (144, .iaload, 145, 0), (145, .invokevirtual 223, 148, 0), (148, .iinc 3 1, 151, 0), (151, .goto (-79), 154, 72), (154, .aload_n 0, 155, 0), (155, .getfield 216, 158, 0), (158, .ireturn, 159, 0)]
theorem tX4_writeHull_1_ok : pb_Tok cX4_writeHull tX4_writeHull_1 := pb_Tok.cons dX4_writeHull_106 rfl (pb_Tok.cons dX4_writeHull_107 rfl (pb_Tok.cons dX4_writeHull_108 rfl (pb_Tok.cons dX4_writeHull_109 rfl (pb_Tok.cons dX4_writeHull_112 rfl (pb_Tok.cons dX4_writeHull_115 rfl (pb_Tok.cons dX4_writeHull_116 rfl (pb_Tok.cons dX4_writeHull_117 rfl (pb_Tok.cons dX4_writeHull_118 rfl (pb_Tok.cons dX4_writeHull_121 rfl (pb_Tok.cons dX4_writeHull_124 rfl (pb_Tok.cons dX4_writeHull_125 rfl (pb_Tok.cons dX4_writeHull_127 rfl (pb_Tok.cons dX4_writeHull_130 rfl (pb_Tok.cons dX4_writeHull_131 rfl (pb_Tok.cons dX4_writeHull_132 rfl (pb_Tok.cons dX4_writeHull_135 rfl (pb_Tok.cons dX4_writeHull_136 rfl (pb_Tok.cons dX4_writeHull_139 rfl (pb_Tok.cons dX4_writeHull_141 rfl (pb_Tok.cons dX4_writeHull_142 rfl (pb_Tok.cons dX4_writeHull_143 rfl (pb_Tok.cons dX4_writeHull_144 rfl (pb_Tok.cons dX4_writeHull_145 rfl (pb_Tok.cons dX4_writeHull_148 rfl (pb_Tok.cons dX4_writeHull_151 rfl (pb_Tok.cons dX4_writeHull_154 rfl (pb_Tok.cons dX4_writeHull_155 rfl (pb_Tok.cons dX4_writeHull_158 rfl pb_Tok.nil))))))))))))))))))))))))))))
def tX4_writeHull : pb_T := tX4_writeHull_0 ++ (tX4_writeHull_1)
theorem tX4_writeHull_ok : pb_Tok cX4_writeHull tX4_writeHull := pb_Tok.app tX4_writeHull_0_ok (tX4_writeHull_1_ok)
def tX4_writesNumber : pb_T := [(0, .iload_n 1, 1, 0), (1, .bipush 9, 3, 0), (3, .if_icmp .le 14, 6, 17), (6, .aload_n 0, 7, 0), (7, .bipush 48, 9, 0), (9, .iload_n 1, 10, 0), (10, .bipush 10, 12, 0), (12, .idiv, 13, 0), (13, .iadd, 14, 0), (14, .invokevirtual 219, 17, 0), (17, .aload_n 0, 18, 0), (18, .bipush 48, 20, 0), (20, .iload_n 1, 21, 0), (21, .bipush 10, 23, 0), (23, .irem, 24, 0), (24, .iadd, 25, 0), (25, .invokevirtual 219, 28, 0), (28, .return_, 29, 0)]
theorem tX4_writesNumber_ok : pb_Tok cX4_writesNumber tX4_writesNumber := pb_Tok.cons dX4_writesNumber_0 rfl (pb_Tok.cons dX4_writesNumber_1 rfl (pb_Tok.cons dX4_writesNumber_3 rfl (pb_Tok.cons dX4_writesNumber_6 rfl (pb_Tok.cons dX4_writesNumber_7 rfl (pb_Tok.cons dX4_writesNumber_9 rfl (pb_Tok.cons dX4_writesNumber_10 rfl (pb_Tok.cons dX4_writesNumber_12 rfl (pb_Tok.cons dX4_writesNumber_13 rfl (pb_Tok.cons dX4_writesNumber_14 rfl (pb_Tok.cons dX4_writesNumber_17 rfl (pb_Tok.cons dX4_writesNumber_18 rfl (pb_Tok.cons dX4_writesNumber_20 rfl (pb_Tok.cons dX4_writesNumber_21 rfl (pb_Tok.cons dX4_writesNumber_23 rfl (pb_Tok.cons dX4_writesNumber_24 rfl (pb_Tok.cons dX4_writesNumber_25 rfl (pb_Tok.cons dX4_writesNumber_28 rfl pb_Tok.nil)))))))))))))))))
def tX4_sign : pb_T := [(0, .aload_n 0, 1, 0), (1, .getfield 35, 4, 0), (4, .aload_n 0, 5, 0), (5, .getfield 216, 8, 0), (8, .iload_n 1, 9, 0), (9, .iastore, 10, 0), (10, .aload_n 0, 11, 0), (11, .dup, 12, 0), (12, .getfield 216, 15, 0), (15, .iconst 1, 16, 0), (16, .iadd, 17, 0), (17, .putfield 216, 20, 0), (20, .return_, 21, 0)]
theorem tX4_sign_ok : pb_Tok cX4_sign tX4_sign := pb_Tok.cons dX4_sign_0 rfl (pb_Tok.cons dX4_sign_1 rfl (pb_Tok.cons dX4_sign_4 rfl (pb_Tok.cons dX4_sign_5 rfl (pb_Tok.cons dX4_sign_8 rfl (pb_Tok.cons dX4_sign_9 rfl (pb_Tok.cons dX4_sign_10 rfl (pb_Tok.cons dX4_sign_11 rfl (pb_Tok.cons dX4_sign_12 rfl (pb_Tok.cons dX4_sign_15 rfl (pb_Tok.cons dX4_sign_16 rfl (pb_Tok.cons dX4_sign_17 rfl (pb_Tok.cons dX4_sign_20 rfl pb_Tok.nil))))))))))))
def tX4_lineAt : pb_T := [(0, .aload_n 0, 1, 0), (1, .iconst 0, 2, 0), (2, .putfield 48, 5, 0), (5, .iload_n 1, 6, 0), (6, .i2l, 7, 0), (7, .lconst 0, 8, 0), (8, .aload_n 0, 9, 0), (9, .getfield 216, 12, 0), (12, .iconst 1, 13, 0), (13, .isub, 14, 0), (14, .i2l, 15, 0), (15, .invokestatic 54, 18, 0), (18, .ifCond .eq 13, 21, 31), (21, .aload_n 0, 22, 0), (22, .getfield 35, 25, 0), (25, .iload_n 1, 26, 0), (26, .iaload, 27, 0), (27, .i2c, 28, 0), (28, .goto 9, 31, 37), (31, .aload_n 0, 32, 0), (32, .iconst 1, 33, 0), (33, .invokevirtual 88, 36, 0), (36, .i2c, 37, 0), (37, .ireturn, 38, 0)]
theorem tX4_lineAt_ok : pb_Tok cX4_lineAt tX4_lineAt := pb_Tok.cons dX4_lineAt_0 rfl (pb_Tok.cons dX4_lineAt_1 rfl (pb_Tok.cons dX4_lineAt_2 rfl (pb_Tok.cons dX4_lineAt_5 rfl (pb_Tok.cons dX4_lineAt_6 rfl (pb_Tok.cons dX4_lineAt_7 rfl (pb_Tok.cons dX4_lineAt_8 rfl (pb_Tok.cons dX4_lineAt_9 rfl (pb_Tok.cons dX4_lineAt_12 rfl (pb_Tok.cons dX4_lineAt_13 rfl (pb_Tok.cons dX4_lineAt_14 rfl (pb_Tok.cons dX4_lineAt_15 rfl (pb_Tok.cons dX4_lineAt_18 rfl (pb_Tok.cons dX4_lineAt_21 rfl (pb_Tok.cons dX4_lineAt_22 rfl (pb_Tok.cons dX4_lineAt_25 rfl (pb_Tok.cons dX4_lineAt_26 rfl (pb_Tok.cons dX4_lineAt_27 rfl (pb_Tok.cons dX4_lineAt_28 rfl (pb_Tok.cons dX4_lineAt_31 rfl (pb_Tok.cons dX4_lineAt_32 rfl (pb_Tok.cons dX4_lineAt_33 rfl (pb_Tok.cons dX4_lineAt_36 rfl (pb_Tok.cons dX4_lineAt_37 rfl pb_Tok.nil)))))))))))))))))))))))
def tX4_type : pb_T := [(0, .aload_n 0, 1, 0), (1, .iconst 0, 2, 0), (2, .putfield 48, 5, 0), (5, .iload_n 1, 6, 0), (6, .i2l, 7, 0), (7, .ldc2_w 226, 10, 0), (10, .ldc2_w 228, 13, 0), (13, .invokestatic 54, 16, 0), (16, .ifCond .ne 9, 19, 25), (19, .aload_n 0, 20, 0), (20, .iconst 1, 21, 0), (21, .invokevirtual 88, 24, 0), (24, .ireturn, 25, 0), (25, .aload_n 0, 26, 0), (26, .getfield 230, 29, 0), (29, .bipush 60, 31, 0), (31, .if_icmp .ne 9, 34, 40), (34, .aload_n 0, 35, 0), (35, .iconst 2, 36, 0), (36, .invokevirtual 88, 39, 0), (39, .ireturn, 40, 0), (40, .aload_n 0, 41, 0), (41, .getfield 29, 44, 0), (44, .aload_n 0, 45, 0), (45, .getfield 230, 48, 0), (48, .iload_n 1, 49, 0), (49, .iastore, 50, 0), (50, .aload_n 0, 51, 0), (51, .dup, 52, 0), (52, .getfield 230, 55, 0), (55, .iconst 1, 56, 0), (56, .iadd, 57, 0), (57, .putfield 230, 60, 0), (60, .aload_n 0, 61, 0), (61, .getfield 230, 64, 0), (64, .ireturn, 65, 0)]
theorem tX4_type_ok : pb_Tok cX4_type tX4_type := pb_Tok.cons dX4_type_0 rfl (pb_Tok.cons dX4_type_1 rfl (pb_Tok.cons dX4_type_2 rfl (pb_Tok.cons dX4_type_5 rfl (pb_Tok.cons dX4_type_6 rfl (pb_Tok.cons dX4_type_7 rfl (pb_Tok.cons dX4_type_10 rfl (pb_Tok.cons dX4_type_13 rfl (pb_Tok.cons dX4_type_16 rfl (pb_Tok.cons dX4_type_19 rfl (pb_Tok.cons dX4_type_20 rfl (pb_Tok.cons dX4_type_21 rfl (pb_Tok.cons dX4_type_24 rfl (pb_Tok.cons dX4_type_25 rfl (pb_Tok.cons dX4_type_26 rfl (pb_Tok.cons dX4_type_29 rfl (pb_Tok.cons dX4_type_31 rfl (pb_Tok.cons dX4_type_34 rfl (pb_Tok.cons dX4_type_35 rfl (pb_Tok.cons dX4_type_36 rfl (pb_Tok.cons dX4_type_39 rfl (pb_Tok.cons dX4_type_40 rfl (pb_Tok.cons dX4_type_41 rfl (pb_Tok.cons dX4_type_44 rfl (pb_Tok.cons dX4_type_45 rfl (pb_Tok.cons dX4_type_48 rfl (pb_Tok.cons dX4_type_49 rfl (pb_Tok.cons dX4_type_50 rfl (pb_Tok.cons dX4_type_51 rfl (pb_Tok.cons dX4_type_52 rfl (pb_Tok.cons dX4_type_55 rfl (pb_Tok.cons dX4_type_56 rfl (pb_Tok.cons dX4_type_57 rfl (pb_Tok.cons dX4_type_60 rfl (pb_Tok.cons dX4_type_61 rfl (pb_Tok.cons dX4_type_64 rfl pb_Tok.nil)))))))))))))))))))))))))))))))))))
def tX4_execute_0 : pb_T := [(0, .aload_n 0, 1, 0), (1, .invokevirtual 91, 4, 0), (4, .aload_n 0, 5, 0), (5, .aload_n 0, 6, 0), (6, .getfield 230, 9, 0), (9, .putfield 236, 12, 0), (12, .aload_n 0, 13, 0), (13, .iconst 0, 14, 0), (14, .putfield 230, 17, 0), (17, .aload_n 0, 18, 0), (18, .iconst 0, 19, 0), (19, .putfield 233, 22, 0), (22, .aload_n 0, 23, 0), (23, .iconst 0, 24, 0), (24, .putfield 265, 27, 0), (27, .aload_n 0, 28, 0), (28, .iconst 0, 29, 0), (29, .putfield 239, 32, 0), (32, .iconst 1, 33, 0), (33, .istore_n 1, 34, 0), (34, .iload_n 1, 35, 1), (35, .ifCond .eq 57, 38, 92), (38, .aload_n 0, 39, 0), (39, .invokevirtual 275, 42, 0), (42, .aload_n 0, 43, 0), (43, .getfield 239, 46, 0), (46, .ifCond .ne 18, 49, 64), (49, .aload_n 0, 50, 0), (50, .getfield 233, 53, 0), (53, .aload_n 0, 54, 0), (54, .getfield 236, 57, 0), (57, .if_icmp .ge 7, 60, 64), (60, .iconst 1, 61, 0), (61, .goto 4, 64, 65), (64, .iconst 0, 65, 0), (65, .istore_n 1, 66, 0), (66, .iload_n 1, 67, 0), (67, .ifCond .eq (-33), 70, 34), (70, .aload_n 0, 71, 0), (71, .bipush 59, 73, 0), (73, .invokevirtual 253, 76, 0), (76, .aload_n 0, 77, 0), (77, .getfield 239, 80, 0), (80, .ifCond .ne 7, 83, 87), (83, .iconst 1, 84, 0), (84, .goto 4, 87, 88), (87, .iconst 0, 88, 0), (88, .istore_n 1, 89, 0), (89, .goto (-55), 92, 34), (92, .aload_n 0, 93, 0), (93, .getfield 239, 96, 0), (96, .ifCond .eq 17, 99, 113), (99, .aload_n 0, 100, 0), (100, .aload_n 0, 101, 0), (101, .getfield 233, 104, 0), (104, .putfield 22, 107, 0), (107, .aload_n 0, 108, 0), (108, .iconst 1, 109, 0), (109, .invokevirtual 88, 112, 0), (112, .ireturn, 113, 0)]
theorem tX4_execute_0_ok : pb_Tok cX4_execute tX4_execute_0 := pb_Tok.cons dX4_execute_0 rfl (pb_Tok.cons dX4_execute_1 rfl (pb_Tok.cons dX4_execute_4 rfl (pb_Tok.cons dX4_execute_5 rfl (pb_Tok.cons dX4_execute_6 rfl (pb_Tok.cons dX4_execute_9 rfl (pb_Tok.cons dX4_execute_12 rfl (pb_Tok.cons dX4_execute_13 rfl (pb_Tok.cons dX4_execute_14 rfl (pb_Tok.cons dX4_execute_17 rfl (pb_Tok.cons dX4_execute_18 rfl (pb_Tok.cons dX4_execute_19 rfl (pb_Tok.cons dX4_execute_22 rfl (pb_Tok.cons dX4_execute_23 rfl (pb_Tok.cons dX4_execute_24 rfl (pb_Tok.cons dX4_execute_27 rfl (pb_Tok.cons dX4_execute_28 rfl (pb_Tok.cons dX4_execute_29 rfl (pb_Tok.cons dX4_execute_32 rfl (pb_Tok.cons dX4_execute_33 rfl (pb_Tok.cons dX4_execute_34 rfl (pb_Tok.cons dX4_execute_35 rfl (pb_Tok.cons dX4_execute_38 rfl (pb_Tok.cons dX4_execute_39 rfl (pb_Tok.cons dX4_execute_42 rfl (pb_Tok.cons dX4_execute_43 rfl (pb_Tok.cons dX4_execute_46 rfl (pb_Tok.cons dX4_execute_49 rfl (pb_Tok.cons dX4_execute_50 rfl (pb_Tok.cons dX4_execute_53 rfl (pb_Tok.cons dX4_execute_54 rfl (pb_Tok.cons dX4_execute_57 rfl (pb_Tok.cons dX4_execute_60 rfl (pb_Tok.cons dX4_execute_61 rfl (pb_Tok.cons dX4_execute_64 rfl (pb_Tok.cons dX4_execute_65 rfl (pb_Tok.cons dX4_execute_66 rfl (pb_Tok.cons dX4_execute_67 rfl (pb_Tok.cons dX4_execute_70 rfl (pb_Tok.cons dX4_execute_71 rfl (pb_Tok.cons dX4_execute_73 rfl (pb_Tok.cons dX4_execute_76 rfl (pb_Tok.cons dX4_execute_77 rfl (pb_Tok.cons dX4_execute_80 rfl (pb_Tok.cons dX4_execute_83 rfl (pb_Tok.cons dX4_execute_84 rfl (pb_Tok.cons dX4_execute_87 rfl (pb_Tok.cons dX4_execute_88 rfl (pb_Tok.cons dX4_execute_89 rfl (pb_Tok.cons dX4_execute_92 rfl (pb_Tok.cons dX4_execute_93 rfl (pb_Tok.cons dX4_execute_96 rfl (pb_Tok.cons dX4_execute_99 rfl (pb_Tok.cons dX4_execute_100 rfl (pb_Tok.cons dX4_execute_101 rfl (pb_Tok.cons dX4_execute_104 rfl (pb_Tok.cons dX4_execute_107 rfl (pb_Tok.cons dX4_execute_108 rfl (pb_Tok.cons dX4_execute_109 rfl (pb_Tok.cons dX4_execute_112 rfl pb_Tok.nil)))))))))))))))))))))))))))))))))))))))))))))))))))))))))))
def tX4_execute_1 : pb_T := [(113, .iconst 0, 114, 0), (114, .istore_n 2, 115, 0), (115, .iload_n 2, 116, 1), (116, .aload_n 0, 117, 0), (117, .getfield 265, 120, 0), (120, .if_icmp .ge 61, 123, 181), (123, .aload_n 0, 124, 0), (124, .iconst 4, 125, 0), (125, .iload_n 2, 126, 0), (126, .imul, 127, 0), (127, .invokevirtual 278, 130, 0), (130, .aload_n 0, 131, 0), (131, .getfield 48, 134, 0), (134, .ifCond .le 41, 137, 175), (137, .iconst 0, 138, 0), (138, .istore_n 3, 139, 0), (139, .iload_n 3, 140, 1), (140, .sipush 213, 143, 0), (143, .if_icmp .ge 21, 146, 164), (146, .aload_n 0, 147, 0), (147, .getfield 9, 150, 0), (150, .iload_n 3, 151, 0), (151, .aload_n 0, 152, 0), (152, .getfield 13, 155, 0), (155, .iload_n 3, 156, 0), (156, .iaload, 157, 0), (157, .iastore, 158, 0), (158, .iinc 3 1, 161, 0), (161, .goto (-22), 164, 139), (164, .aload_n 0, 165, 0), (165, .iload_n 2, 166, 0), (166, .putfield 26, 169, 0), (169, .aload_n 0, 170, 0), (170, .iconst 2, 171, 0), (171, .invokevirtual 88, 174, 0), (174, .ireturn, 175, 0), (175, .iinc 2 1, 178, 0), (178, .goto (-63), 181, 115), (181, .aload_n 0, 182, 0), (182, .aload_n 0, 183, 0), (183, .getfield 265, 186, 0), (186, .invokevirtual 98, 189, 0), (189, .ireturn, 190, 0)]
theorem tX4_execute_1_ok : pb_Tok cX4_execute tX4_execute_1 := pb_Tok.cons dX4_execute_113 rfl (pb_Tok.cons dX4_execute_114 rfl (pb_Tok.cons dX4_execute_115 rfl (pb_Tok.cons dX4_execute_116 rfl (pb_Tok.cons dX4_execute_117 rfl (pb_Tok.cons dX4_execute_120 rfl (pb_Tok.cons dX4_execute_123 rfl (pb_Tok.cons dX4_execute_124 rfl (pb_Tok.cons dX4_execute_125 rfl (pb_Tok.cons dX4_execute_126 rfl (pb_Tok.cons dX4_execute_127 rfl (pb_Tok.cons dX4_execute_130 rfl (pb_Tok.cons dX4_execute_131 rfl (pb_Tok.cons dX4_execute_134 rfl (pb_Tok.cons dX4_execute_137 rfl (pb_Tok.cons dX4_execute_138 rfl (pb_Tok.cons dX4_execute_139 rfl (pb_Tok.cons dX4_execute_140 rfl (pb_Tok.cons dX4_execute_143 rfl (pb_Tok.cons dX4_execute_146 rfl (pb_Tok.cons dX4_execute_147 rfl (pb_Tok.cons dX4_execute_150 rfl (pb_Tok.cons dX4_execute_151 rfl (pb_Tok.cons dX4_execute_152 rfl (pb_Tok.cons dX4_execute_155 rfl (pb_Tok.cons dX4_execute_156 rfl (pb_Tok.cons dX4_execute_157 rfl (pb_Tok.cons dX4_execute_158 rfl (pb_Tok.cons dX4_execute_161 rfl (pb_Tok.cons dX4_execute_164 rfl (pb_Tok.cons dX4_execute_165 rfl (pb_Tok.cons dX4_execute_166 rfl (pb_Tok.cons dX4_execute_169 rfl (pb_Tok.cons dX4_execute_170 rfl (pb_Tok.cons dX4_execute_171 rfl (pb_Tok.cons dX4_execute_174 rfl (pb_Tok.cons dX4_execute_175 rfl (pb_Tok.cons dX4_execute_178 rfl (pb_Tok.cons dX4_execute_181 rfl (pb_Tok.cons dX4_execute_182 rfl (pb_Tok.cons dX4_execute_183 rfl (pb_Tok.cons dX4_execute_186 rfl (pb_Tok.cons dX4_execute_189 rfl pb_Tok.nil))))))))))))))))))))))))))))))))))))))))))
def tX4_execute : pb_T := tX4_execute_0 ++ (tX4_execute_1)
theorem tX4_execute_ok : pb_Tok cX4_execute tX4_execute := pb_Tok.app tX4_execute_0_ok (tX4_execute_1_ok)
def tX4_readCommand_0 : pb_T := [(0, .iconst 4, 1, 0), (1, .aload_n 0, 2, 0), (2, .getfield 265, 5, 0), (5, .imul, 6, 0), (6, .istore_n 1, 7, 0), (7, .iconst 0, 8, 0), (8, .istore_n 2, 9, 0), (9, .iconst 1, 10, 0), (10, .istore_n 3, 11, 0), (11, .iload_n 3, 12, 1), (12, .bipush 11, 14, 0), (14, .if_icmp .ge 28, 17, 42), (17, .aload_n 0, 18, 0), (18, .iload_n 3, 19, 0), (19, .invokevirtual 268, 22, 0), (22, .aload_n 0, 23, 0), (23, .iload_n 2, 24, 0), (24, .invokevirtual 268, 27, 0), (27, .if_icmp .le 7, 30, 34), (30, .iload_n 3, 31, 0), (31, .goto 4, 34, 35), (34, .iload_n 2, 35, 0), (35, .istore_n 2, 36, 0), (36, .iinc 3 1, 39, 0), (39, .goto (-28), 42, 11), (42, .aload_n 0, 43, 0), (43, .iload_n 2, 44, 0), (44, .invokevirtual 268, 47, 0), (47, .istore_n 3, 48, 0), (48, .aload_n 0, 49, 0), (49, .dup, 50, 0), (50, .getfield 233, 53, 0), (53, .iload_n 3, 54, 0), (54, .iadd, 55, 0), (55, .putfield 233, 58, 0), (58, .aload_n 0, 59, 0), (59, .iload_n 3, 60, 0), (60, .aload_n 0, 61, 0), (61, .getfield 42, 64, 0), (64, .iload_n 2, 65, 0), (65, .iconst 1, 66, 0), (66, .iadd, 67, 0), (67, .iaload, 68, 0), (68, .aload_n 0, 69, 0), (69, .getfield 42, 72, 0), (72, .iload_n 2, 73, 0), (73, .iaload, 74, 0), (74, .isub, 75, 0), (75, .if_icmp .ge 7, 78, 82), (78, .iconst 1, 79, 0), (79, .goto 4, 82, 83), (82, .iconst 0, 83, 0), (83, .putfield 239, 86, 0), (86, .aload_n 0, 87, 0), (87, .getfield 239, 90, 0), (90, .ifCond .ne 28, 93, 118), (93, .aload_n 0, 94, 0), (94, .getfield 45, 97, 0), (97, .iload_n 1, 98, 0), (98, .iload_n 2, 99, 0)]
theorem tX4_readCommand_0_ok : pb_Tok cX4_readCommand tX4_readCommand_0 := pb_Tok.cons dX4_readCommand_0 rfl (pb_Tok.cons dX4_readCommand_1 rfl (pb_Tok.cons dX4_readCommand_2 rfl (pb_Tok.cons dX4_readCommand_5 rfl (pb_Tok.cons dX4_readCommand_6 rfl (pb_Tok.cons dX4_readCommand_7 rfl (pb_Tok.cons dX4_readCommand_8 rfl (pb_Tok.cons dX4_readCommand_9 rfl (pb_Tok.cons dX4_readCommand_10 rfl (pb_Tok.cons dX4_readCommand_11 rfl (pb_Tok.cons dX4_readCommand_12 rfl (pb_Tok.cons dX4_readCommand_14 rfl (pb_Tok.cons dX4_readCommand_17 rfl (pb_Tok.cons dX4_readCommand_18 rfl (pb_Tok.cons dX4_readCommand_19 rfl (pb_Tok.cons dX4_readCommand_22 rfl (pb_Tok.cons dX4_readCommand_23 rfl (pb_Tok.cons dX4_readCommand_24 rfl (pb_Tok.cons dX4_readCommand_27 rfl (pb_Tok.cons dX4_readCommand_30 rfl (pb_Tok.cons dX4_readCommand_31 rfl (pb_Tok.cons dX4_readCommand_34 rfl (pb_Tok.cons dX4_readCommand_35 rfl (pb_Tok.cons dX4_readCommand_36 rfl (pb_Tok.cons dX4_readCommand_39 rfl (pb_Tok.cons dX4_readCommand_42 rfl (pb_Tok.cons dX4_readCommand_43 rfl (pb_Tok.cons dX4_readCommand_44 rfl (pb_Tok.cons dX4_readCommand_47 rfl (pb_Tok.cons dX4_readCommand_48 rfl (pb_Tok.cons dX4_readCommand_49 rfl (pb_Tok.cons dX4_readCommand_50 rfl (pb_Tok.cons dX4_readCommand_53 rfl (pb_Tok.cons dX4_readCommand_54 rfl (pb_Tok.cons dX4_readCommand_55 rfl (pb_Tok.cons dX4_readCommand_58 rfl (pb_Tok.cons dX4_readCommand_59 rfl (pb_Tok.cons dX4_readCommand_60 rfl (pb_Tok.cons dX4_readCommand_61 rfl (pb_Tok.cons dX4_readCommand_64 rfl (pb_Tok.cons dX4_readCommand_65 rfl (pb_Tok.cons dX4_readCommand_66 rfl (pb_Tok.cons dX4_readCommand_67 rfl (pb_Tok.cons dX4_readCommand_68 rfl (pb_Tok.cons dX4_readCommand_69 rfl (pb_Tok.cons dX4_readCommand_72 rfl (pb_Tok.cons dX4_readCommand_73 rfl (pb_Tok.cons dX4_readCommand_74 rfl (pb_Tok.cons dX4_readCommand_75 rfl (pb_Tok.cons dX4_readCommand_78 rfl (pb_Tok.cons dX4_readCommand_79 rfl (pb_Tok.cons dX4_readCommand_82 rfl (pb_Tok.cons dX4_readCommand_83 rfl (pb_Tok.cons dX4_readCommand_86 rfl (pb_Tok.cons dX4_readCommand_87 rfl (pb_Tok.cons dX4_readCommand_90 rfl (pb_Tok.cons dX4_readCommand_93 rfl (pb_Tok.cons dX4_readCommand_94 rfl (pb_Tok.cons dX4_readCommand_97 rfl (pb_Tok.cons dX4_readCommand_98 rfl pb_Tok.nil)))))))))))))))))))))))))))))))))))))))))))))))))))))))))))
def tX4_readCommand_1 : pb_T := [(99, .iastore, 100, 0), (100, .aload_n 0, 101, 0), (101, .dup, 102, 0), (102, .getfield 265, 105, 0), (105, .iconst 1, 106, 0), (106, .iadd, 107, 0), (107, .putfield 265, 110, 0), (110, .aload_n 0, 111, 0), (111, .iload_n 2, 112, 0), (112, .iload_n 1, 113, 0), (113, .iconst 1, 114, 0), (114, .iadd, 115, 0), (115, .invokevirtual 271, 118, 0), (118, .return_, 119, 0)]
theorem tX4_readCommand_1_ok : pb_Tok cX4_readCommand tX4_readCommand_1 := pb_Tok.cons dX4_readCommand_99 rfl (pb_Tok.cons dX4_readCommand_100 rfl (pb_Tok.cons dX4_readCommand_101 rfl (pb_Tok.cons dX4_readCommand_102 rfl (pb_Tok.cons dX4_readCommand_105 rfl (pb_Tok.cons dX4_readCommand_106 rfl (pb_Tok.cons dX4_readCommand_107 rfl (pb_Tok.cons dX4_readCommand_110 rfl (pb_Tok.cons dX4_readCommand_111 rfl (pb_Tok.cons dX4_readCommand_112 rfl (pb_Tok.cons dX4_readCommand_113 rfl (pb_Tok.cons dX4_readCommand_114 rfl (pb_Tok.cons dX4_readCommand_115 rfl (pb_Tok.cons dX4_readCommand_118 rfl pb_Tok.nil)))))))))))))
def tX4_readCommand : pb_T := tX4_readCommand_0 ++ (tX4_readCommand_1)
theorem tX4_readCommand_ok : pb_Tok cX4_readCommand tX4_readCommand := pb_Tok.app tX4_readCommand_0_ok (tX4_readCommand_1_ok)
def tX4_likeness : pb_T := [(0, .iconst 0, 1, 0), (1, .istore_n 2, 2, 0), (2, .aload_n 0, 3, 0), (3, .getfield 42, 6, 0), (6, .iload_n 1, 7, 0), (7, .iconst 1, 8, 0), (8, .iadd, 9, 0), (9, .iaload, 10, 0), (10, .aload_n 0, 11, 0), (11, .getfield 42, 14, 0), (14, .iload_n 1, 15, 0), (15, .iaload, 16, 0), (16, .isub, 17, 0), (17, .istore_n 3, 18, 0), (18, .iload_n 2, 19, 1), (19, .iload_n 3, 20, 0), (20, .if_icmp .ge 49, 23, 69), (23, .aload_n 0, 24, 0), (24, .getfield 233, 27, 0), (27, .iload_n 2, 28, 0), (28, .iadd, 29, 0), (29, .aload_n 0, 30, 0), (30, .getfield 236, 33, 0), (33, .if_icmp .ge 36, 36, 69), (36, .aload_n 0, 37, 0), (37, .getfield 29, 40, 0), (40, .aload_n 0, 41, 0), (41, .getfield 233, 44, 0), (44, .iload_n 2, 45, 0), (45, .iadd, 46, 0), (46, .iaload, 47, 0), (47, .aload_n 0, 48, 0), (48, .getfield 38, 51, 0), (51, .aload_n 0, 52, 0), (52, .getfield 42, 55, 0), (55, .iload_n 1, 56, 0), (56, .iaload, 57, 0), (57, .iload_n 2, 58, 0), (58, .iadd, 59, 0), (59, .caload, 60, 0), (60, .if_icmp .ne 9, 63, 69), (63, .iinc 2 1, 66, 0), (66, .goto (-48), 69, 18), (69, .iload_n 2, 70, 0), (70, .ireturn, 71, 0)]
theorem tX4_likeness_ok : pb_Tok cX4_likeness tX4_likeness := pb_Tok.cons dX4_likeness_0 rfl (pb_Tok.cons dX4_likeness_1 rfl (pb_Tok.cons dX4_likeness_2 rfl (pb_Tok.cons dX4_likeness_3 rfl (pb_Tok.cons dX4_likeness_6 rfl (pb_Tok.cons dX4_likeness_7 rfl (pb_Tok.cons dX4_likeness_8 rfl (pb_Tok.cons dX4_likeness_9 rfl (pb_Tok.cons dX4_likeness_10 rfl (pb_Tok.cons dX4_likeness_11 rfl (pb_Tok.cons dX4_likeness_14 rfl (pb_Tok.cons dX4_likeness_15 rfl (pb_Tok.cons dX4_likeness_16 rfl (pb_Tok.cons dX4_likeness_17 rfl (pb_Tok.cons dX4_likeness_18 rfl (pb_Tok.cons dX4_likeness_19 rfl (pb_Tok.cons dX4_likeness_20 rfl (pb_Tok.cons dX4_likeness_23 rfl (pb_Tok.cons dX4_likeness_24 rfl (pb_Tok.cons dX4_likeness_27 rfl (pb_Tok.cons dX4_likeness_28 rfl (pb_Tok.cons dX4_likeness_29 rfl (pb_Tok.cons dX4_likeness_30 rfl (pb_Tok.cons dX4_likeness_33 rfl (pb_Tok.cons dX4_likeness_36 rfl (pb_Tok.cons dX4_likeness_37 rfl (pb_Tok.cons dX4_likeness_40 rfl (pb_Tok.cons dX4_likeness_41 rfl (pb_Tok.cons dX4_likeness_44 rfl (pb_Tok.cons dX4_likeness_45 rfl (pb_Tok.cons dX4_likeness_46 rfl (pb_Tok.cons dX4_likeness_47 rfl (pb_Tok.cons dX4_likeness_48 rfl (pb_Tok.cons dX4_likeness_51 rfl (pb_Tok.cons dX4_likeness_52 rfl (pb_Tok.cons dX4_likeness_55 rfl (pb_Tok.cons dX4_likeness_56 rfl (pb_Tok.cons dX4_likeness_57 rfl (pb_Tok.cons dX4_likeness_58 rfl (pb_Tok.cons dX4_likeness_59 rfl (pb_Tok.cons dX4_likeness_60 rfl (pb_Tok.cons dX4_likeness_63 rfl (pb_Tok.cons dX4_likeness_66 rfl (pb_Tok.cons dX4_likeness_69 rfl (pb_Tok.cons dX4_likeness_70 rfl pb_Tok.nil))))))))))))))))))))))))))))))))))))))))))))
def tX4_readArguments_0 : pb_T := [(0, .aload_n 0, 1, 0), (1, .getfield 45, 4, 0), (4, .iload_n 2, 5, 0), (5, .iload_n 1, 6, 0), (6, .ifCond .ne 7, 9, 13), (9, .iconst 0, 10, 0), (10, .goto 32, 13, 42), (13, .iload_n 1, 14, 0), (14, .bipush 7, 16, 0), (16, .if_icmp .eq 15, 19, 31), (19, .iload_n 1, 20, 0), (20, .bipush 8, 22, 0), (22, .if_icmp .eq 9, 25, 31), (25, .iload_n 1, 26, 0), (26, .bipush 10, 28, 0), (28, .if_icmp .ne 10, 31, 38), (31, .aload_n 0, 32, 0), (32, .invokevirtual 256, 35, 0), (35, .goto 7, 38, 42), (38, .aload_n 0, 39, 0), (39, .invokevirtual 250, 42, 0), (42, .iastore, 43, 0), (43, .iload_n 1, 44, 0), (44, .tableswitch 150 1 10 #[56, 150, 87, 150, 104, 87, 150, 87, 119, 104], 100, 0), (100, .aload_n 0, 101, 0), (101, .getfield 45, 104, 0), (104, .iload_n 2, 105, 0), (105, .iconst 1, 106, 0), (106, .iadd, 107, 0), (107, .aload_n 0, 108, 0), (108, .bipush 32, 110, 0), (110, .invokevirtual 259, 113, 0), (113, .iastore, 114, 0), (114, .aload_n 0, 115, 0), (115, .getfield 45, 118, 0), (118, .iload_n 2, 119, 0), (119, .iconst 2, 120, 0), (120, .iadd, 121, 0), (121, .aload_n 0, 122, 0), (122, .bipush 47, 124, 0), (124, .invokevirtual 259, 127, 0), (127, .iastore, 128, 0), (128, .goto 66, 131, 194), (131, .aload_n 0, 132, 0), (132, .getfield 45, 135, 0), (135, .iload_n 2, 136, 0), (136, .iconst 1, 137, 0), (137, .iadd, 138, 0), (138, .aload_n 0, 139, 0), (139, .bipush 32, 141, 0), (141, .invokevirtual 259, 144, 0), (144, .iastore, 145, 0), (145, .goto 49, 148, 194), (148, .aload_n 0, 149, 0), (149, .getfield 45, 152, 0), (152, .iload_n 2, 153, 0), (153, .iconst 1, 154, 0), (154, .iadd, 155, 0), (155, .aload_n 0, 156, 0), (156, .invokevirtual 262, 159, 0)]
theorem tX4_readArguments_0_ok : pb_Tok cX4_readArguments tX4_readArguments_0 := pb_Tok.cons dX4_readArguments_0 rfl (pb_Tok.cons dX4_readArguments_1 rfl (pb_Tok.cons dX4_readArguments_4 rfl (pb_Tok.cons dX4_readArguments_5 rfl (pb_Tok.cons dX4_readArguments_6 rfl (pb_Tok.cons dX4_readArguments_9 rfl (pb_Tok.cons dX4_readArguments_10 rfl (pb_Tok.cons dX4_readArguments_13 rfl (pb_Tok.cons dX4_readArguments_14 rfl (pb_Tok.cons dX4_readArguments_16 rfl (pb_Tok.cons dX4_readArguments_19 rfl (pb_Tok.cons dX4_readArguments_20 rfl (pb_Tok.cons dX4_readArguments_22 rfl (pb_Tok.cons dX4_readArguments_25 rfl (pb_Tok.cons dX4_readArguments_26 rfl (pb_Tok.cons dX4_readArguments_28 rfl (pb_Tok.cons dX4_readArguments_31 rfl (pb_Tok.cons dX4_readArguments_32 rfl (pb_Tok.cons dX4_readArguments_35 rfl (pb_Tok.cons dX4_readArguments_38 rfl (pb_Tok.cons dX4_readArguments_39 rfl (pb_Tok.cons dX4_readArguments_42 rfl (pb_Tok.cons dX4_readArguments_43 rfl (pb_Tok.cons dX4_readArguments_44 rfl (pb_Tok.cons dX4_readArguments_100 rfl (pb_Tok.cons dX4_readArguments_101 rfl (pb_Tok.cons dX4_readArguments_104 rfl (pb_Tok.cons dX4_readArguments_105 rfl (pb_Tok.cons dX4_readArguments_106 rfl (pb_Tok.cons dX4_readArguments_107 rfl (pb_Tok.cons dX4_readArguments_108 rfl (pb_Tok.cons dX4_readArguments_110 rfl (pb_Tok.cons dX4_readArguments_113 rfl (pb_Tok.cons dX4_readArguments_114 rfl (pb_Tok.cons dX4_readArguments_115 rfl (pb_Tok.cons dX4_readArguments_118 rfl (pb_Tok.cons dX4_readArguments_119 rfl (pb_Tok.cons dX4_readArguments_120 rfl (pb_Tok.cons dX4_readArguments_121 rfl (pb_Tok.cons dX4_readArguments_122 rfl (pb_Tok.cons dX4_readArguments_124 rfl (pb_Tok.cons dX4_readArguments_127 rfl (pb_Tok.cons dX4_readArguments_128 rfl (pb_Tok.cons dX4_readArguments_131 rfl (pb_Tok.cons dX4_readArguments_132 rfl (pb_Tok.cons dX4_readArguments_135 rfl (pb_Tok.cons dX4_readArguments_136 rfl (pb_Tok.cons dX4_readArguments_137 rfl (pb_Tok.cons dX4_readArguments_138 rfl (pb_Tok.cons dX4_readArguments_139 rfl (pb_Tok.cons dX4_readArguments_141 rfl (pb_Tok.cons dX4_readArguments_144 rfl (pb_Tok.cons dX4_readArguments_145 rfl (pb_Tok.cons dX4_readArguments_148 rfl (pb_Tok.cons dX4_readArguments_149 rfl (pb_Tok.cons dX4_readArguments_152 rfl (pb_Tok.cons dX4_readArguments_153 rfl (pb_Tok.cons dX4_readArguments_154 rfl (pb_Tok.cons dX4_readArguments_155 rfl (pb_Tok.cons dX4_readArguments_156 rfl pb_Tok.nil)))))))))))))))))))))))))))))))))))))))))))))))))))))))))))
def tX4_readArguments_1 : pb_T := [(159, .iastore, 160, 0), (160, .goto 34, 163, 194), (163, .aload_n 0, 164, 0), (164, .getfield 45, 167, 0), (167, .iload_n 2, 168, 0), (168, .iconst 1, 169, 0), (169, .iadd, 170, 0), (170, .aload_n 0, 171, 0), (171, .bipush 32, 173, 0), (173, .invokevirtual 259, 176, 0), (176, .iastore, 177, 0), (177, .aload_n 0, 178, 0), (178, .getfield 45, 181, 0), (181, .iload_n 2, 182, 0), (182, .iconst 2, 183, 0), (183, .iadd, 184, 0), (184, .aload_n 0, 185, 0), (185, .bipush 32, 187, 0), (187, .invokevirtual 259, 190, 0), (190, .iastore, 191, 0), (191, .goto 3, 194, 194), (194, .return_, 195, 0)]
theorem tX4_readArguments_1_ok : pb_Tok cX4_readArguments tX4_readArguments_1 := pb_Tok.cons dX4_readArguments_159 rfl (pb_Tok.cons dX4_readArguments_160 rfl (pb_Tok.cons dX4_readArguments_163 rfl (pb_Tok.cons dX4_readArguments_164 rfl (pb_Tok.cons dX4_readArguments_167 rfl (pb_Tok.cons dX4_readArguments_168 rfl (pb_Tok.cons dX4_readArguments_169 rfl (pb_Tok.cons dX4_readArguments_170 rfl (pb_Tok.cons dX4_readArguments_171 rfl (pb_Tok.cons dX4_readArguments_173 rfl (pb_Tok.cons dX4_readArguments_176 rfl (pb_Tok.cons dX4_readArguments_177 rfl (pb_Tok.cons dX4_readArguments_178 rfl (pb_Tok.cons dX4_readArguments_181 rfl (pb_Tok.cons dX4_readArguments_182 rfl (pb_Tok.cons dX4_readArguments_183 rfl (pb_Tok.cons dX4_readArguments_184 rfl (pb_Tok.cons dX4_readArguments_185 rfl (pb_Tok.cons dX4_readArguments_187 rfl (pb_Tok.cons dX4_readArguments_190 rfl (pb_Tok.cons dX4_readArguments_191 rfl (pb_Tok.cons dX4_readArguments_194 rfl pb_Tok.nil)))))))))))))))))))))
def tX4_readArguments : pb_T := tX4_readArguments_0 ++ (tX4_readArguments_1)
theorem tX4_readArguments_ok : pb_Tok cX4_readArguments tX4_readArguments := pb_Tok.app tX4_readArguments_0_ok (tX4_readArguments_1_ok)
def tX4_number : pb_T := [(0, .aload_n 0, 1, 0), (1, .invokevirtual 250, 4, 0), (4, .istore_n 1, 5, 0), (5, .iconst 0, 6, 0), (6, .istore_n 2, 7, 0), (7, .iload_n 2, 8, 1), (8, .iconst 2, 9, 0), (9, .if_icmp .ge 43, 12, 52), (12, .aload_n 0, 13, 0), (13, .getfield 239, 16, 0), (16, .ifCond .ne 36, 19, 52), (19, .aload_n 0, 20, 0), (20, .invokevirtual 243, 23, 0), (23, .i2l, 24, 0), (24, .ldc2_w 246, 27, 0), (27, .ldc2_w 248, 30, 0), (30, .invokestatic 54, 33, 0), (33, .ifCond .eq 19, 36, 52), (36, .bipush 10, 38, 0), (38, .iload_n 1, 39, 0), (39, .imul, 40, 0), (40, .aload_n 0, 41, 0), (41, .invokevirtual 250, 44, 0), (44, .iadd, 45, 0), (45, .istore_n 1, 46, 0), (46, .iinc 2 1, 49, 0), (49, .goto (-42), 52, 7), (52, .iload_n 1, 53, 0), (53, .ireturn, 54, 0)]
theorem tX4_number_ok : pb_Tok cX4_number tX4_number := pb_Tok.cons dX4_number_0 rfl (pb_Tok.cons dX4_number_1 rfl (pb_Tok.cons dX4_number_4 rfl (pb_Tok.cons dX4_number_5 rfl (pb_Tok.cons dX4_number_6 rfl (pb_Tok.cons dX4_number_7 rfl (pb_Tok.cons dX4_number_8 rfl (pb_Tok.cons dX4_number_9 rfl (pb_Tok.cons dX4_number_12 rfl (pb_Tok.cons dX4_number_13 rfl (pb_Tok.cons dX4_number_16 rfl (pb_Tok.cons dX4_number_19 rfl (pb_Tok.cons dX4_number_20 rfl (pb_Tok.cons dX4_number_23 rfl (pb_Tok.cons dX4_number_24 rfl (pb_Tok.cons dX4_number_27 rfl (pb_Tok.cons dX4_number_30 rfl (pb_Tok.cons dX4_number_33 rfl (pb_Tok.cons dX4_number_36 rfl (pb_Tok.cons dX4_number_38 rfl (pb_Tok.cons dX4_number_39 rfl (pb_Tok.cons dX4_number_40 rfl (pb_Tok.cons dX4_number_41 rfl (pb_Tok.cons dX4_number_44 rfl (pb_Tok.cons dX4_number_45 rfl (pb_Tok.cons dX4_number_46 rfl (pb_Tok.cons dX4_number_49 rfl (pb_Tok.cons dX4_number_52 rfl (pb_Tok.cons dX4_number_53 rfl pb_Tok.nil))))))))))))))))))))))))))))
def tX4_digit : pb_T := [(0, .aload_n 0, 1, 0), (1, .aload_n 0, 2, 0), (2, .getfield 239, 5, 0), (5, .ifCond .ne 20, 8, 25), (8, .aload_n 0, 9, 0), (9, .invokevirtual 243, 12, 0), (12, .i2l, 13, 0), (13, .ldc2_w 246, 16, 0), (16, .ldc2_w 248, 19, 0), (19, .invokestatic 54, 22, 0), (22, .ifCond .ne 7, 25, 29), (25, .iconst 1, 26, 0), (26, .goto 4, 29, 30), (29, .iconst 0, 30, 0), (30, .putfield 239, 33, 0), (33, .aload_n 0, 34, 0), (34, .getfield 239, 37, 0), (37, .ifCond .eq 7, 40, 44), (40, .iconst 0, 41, 0), (41, .goto 10, 44, 51), (44, .aload_n 0, 45, 0), (45, .invokevirtual 243, 48, 0), (48, .bipush 48, 50, 0), (50, .isub, 51, 0), (51, .istore_n 1, 52, 0), (52, .aload_n 0, 53, 0), (53, .dup, 54, 0), (54, .getfield 233, 57, 0), (57, .aload_n 0, 58, 0), (58, .getfield 239, 61, 0), (61, .ifCond .eq 7, 64, 68), (64, .iconst 0, 65, 0), (65, .goto 4, 68, 69), (68, .iconst 1, 69, 0), (69, .iadd, 70, 0), (70, .putfield 233, 73, 0), (73, .iload_n 1, 74, 0), (74, .ireturn, 75, 0)]
theorem tX4_digit_ok : pb_Tok cX4_digit tX4_digit := pb_Tok.cons dX4_digit_0 rfl (pb_Tok.cons dX4_digit_1 rfl (pb_Tok.cons dX4_digit_2 rfl (pb_Tok.cons dX4_digit_5 rfl (pb_Tok.cons dX4_digit_8 rfl (pb_Tok.cons dX4_digit_9 rfl (pb_Tok.cons dX4_digit_12 rfl (pb_Tok.cons dX4_digit_13 rfl (pb_Tok.cons dX4_digit_16 rfl (pb_Tok.cons dX4_digit_19 rfl (pb_Tok.cons dX4_digit_22 rfl (pb_Tok.cons dX4_digit_25 rfl (pb_Tok.cons dX4_digit_26 rfl (pb_Tok.cons dX4_digit_29 rfl (pb_Tok.cons dX4_digit_30 rfl (pb_Tok.cons dX4_digit_33 rfl (pb_Tok.cons dX4_digit_34 rfl (pb_Tok.cons dX4_digit_37 rfl (pb_Tok.cons dX4_digit_40 rfl (pb_Tok.cons dX4_digit_41 rfl (pb_Tok.cons dX4_digit_44 rfl (pb_Tok.cons dX4_digit_45 rfl (pb_Tok.cons dX4_digit_48 rfl (pb_Tok.cons dX4_digit_50 rfl (pb_Tok.cons dX4_digit_51 rfl (pb_Tok.cons dX4_digit_52 rfl (pb_Tok.cons dX4_digit_53 rfl (pb_Tok.cons dX4_digit_54 rfl (pb_Tok.cons dX4_digit_57 rfl (pb_Tok.cons dX4_digit_58 rfl (pb_Tok.cons dX4_digit_61 rfl (pb_Tok.cons dX4_digit_64 rfl (pb_Tok.cons dX4_digit_65 rfl (pb_Tok.cons dX4_digit_68 rfl (pb_Tok.cons dX4_digit_69 rfl (pb_Tok.cons dX4_digit_70 rfl (pb_Tok.cons dX4_digit_73 rfl (pb_Tok.cons dX4_digit_74 rfl pb_Tok.nil)))))))))))))))))))))))))))))))))))))
def tX4_here : pb_T := [(0, .aload_n 0, 1, 0), (1, .getfield 233, 4, 0), (4, .aload_n 0, 5, 0), (5, .getfield 236, 8, 0), (8, .if_icmp .ge 15, 11, 23), (11, .aload_n 0, 12, 0), (12, .getfield 29, 15, 0), (15, .aload_n 0, 16, 0), (16, .getfield 233, 19, 0), (19, .iaload, 20, 0), (20, .goto 4, 23, 24), (23, .iconst (-1), 24, 0), (24, .ireturn, 25, 0)]
theorem tX4_here_ok : pb_Tok cX4_here tX4_here := pb_Tok.cons dX4_here_0 rfl (pb_Tok.cons dX4_here_1 rfl (pb_Tok.cons dX4_here_4 rfl (pb_Tok.cons dX4_here_5 rfl (pb_Tok.cons dX4_here_8 rfl (pb_Tok.cons dX4_here_11 rfl (pb_Tok.cons dX4_here_12 rfl (pb_Tok.cons dX4_here_15 rfl (pb_Tok.cons dX4_here_16 rfl (pb_Tok.cons dX4_here_19 rfl (pb_Tok.cons dX4_here_20 rfl (pb_Tok.cons dX4_here_23 rfl (pb_Tok.cons dX4_here_24 rfl pb_Tok.nil))))))))))))
def tX4_numberBehind : pb_T := [(0, .aload_n 0, 1, 0), (1, .iload_n 1, 2, 0), (2, .invokevirtual 253, 5, 0), (5, .aload_n 0, 6, 0), (6, .invokevirtual 256, 9, 0), (9, .ireturn, 10, 0)]
theorem tX4_numberBehind_ok : pb_Tok cX4_numberBehind tX4_numberBehind := pb_Tok.cons dX4_numberBehind_0 rfl (pb_Tok.cons dX4_numberBehind_1 rfl (pb_Tok.cons dX4_numberBehind_2 rfl (pb_Tok.cons dX4_numberBehind_5 rfl (pb_Tok.cons dX4_numberBehind_6 rfl (pb_Tok.cons dX4_numberBehind_9 rfl pb_Tok.nil)))))
def tX4_expects : pb_T := [(0, .aload_n 0, 1, 0), (1, .aload_n 0, 2, 0), (2, .getfield 239, 5, 0), (5, .ifCond .ne 11, 8, 16), (8, .aload_n 0, 9, 0), (9, .invokevirtual 243, 12, 0), (12, .iload_n 1, 13, 0), (13, .if_icmp .eq 7, 16, 20), (16, .iconst 1, 17, 0), (17, .goto 4, 20, 21), (20, .iconst 0, 21, 0), (21, .putfield 239, 24, 0), (24, .aload_n 0, 25, 0), (25, .dup, 26, 0), (26, .getfield 233, 29, 0), (29, .aload_n 0, 30, 0), (30, .getfield 239, 33, 0), (33, .ifCond .eq 7, 36, 40), (36, .iconst 0, 37, 0), (37, .goto 4, 40, 41), (40, .iconst 1, 41, 0), (41, .iadd, 42, 0), (42, .putfield 233, 45, 0), (45, .return_, 46, 0)]
theorem tX4_expects_ok : pb_Tok cX4_expects tX4_expects := pb_Tok.cons dX4_expects_0 rfl (pb_Tok.cons dX4_expects_1 rfl (pb_Tok.cons dX4_expects_2 rfl (pb_Tok.cons dX4_expects_5 rfl (pb_Tok.cons dX4_expects_8 rfl (pb_Tok.cons dX4_expects_9 rfl (pb_Tok.cons dX4_expects_12 rfl (pb_Tok.cons dX4_expects_13 rfl (pb_Tok.cons dX4_expects_16 rfl (pb_Tok.cons dX4_expects_17 rfl (pb_Tok.cons dX4_expects_20 rfl (pb_Tok.cons dX4_expects_21 rfl (pb_Tok.cons dX4_expects_24 rfl (pb_Tok.cons dX4_expects_25 rfl (pb_Tok.cons dX4_expects_26 rfl (pb_Tok.cons dX4_expects_29 rfl (pb_Tok.cons dX4_expects_30 rfl (pb_Tok.cons dX4_expects_33 rfl (pb_Tok.cons dX4_expects_36 rfl (pb_Tok.cons dX4_expects_37 rfl (pb_Tok.cons dX4_expects_40 rfl (pb_Tok.cons dX4_expects_41 rfl (pb_Tok.cons dX4_expects_42 rfl (pb_Tok.cons dX4_expects_45 rfl pb_Tok.nil)))))))))))))))))))))))
def tX4_digitBehind : pb_T := [(0, .aload_n 0, 1, 0), (1, .bipush 32, 3, 0), (3, .invokevirtual 253, 6, 0), (6, .aload_n 0, 7, 0), (7, .invokevirtual 250, 10, 0), (10, .ireturn, 11, 0)]
theorem tX4_digitBehind_ok : pb_Tok cX4_digitBehind tX4_digitBehind := pb_Tok.cons dX4_digitBehind_0 rfl (pb_Tok.cons dX4_digitBehind_1 rfl (pb_Tok.cons dX4_digitBehind_3 rfl (pb_Tok.cons dX4_digitBehind_6 rfl (pb_Tok.cons dX4_digitBehind_7 rfl (pb_Tok.cons dX4_digitBehind_10 rfl pb_Tok.nil)))))
def tX4_does_0 : pb_T := [(0, .aload_n 0, 1, 0), (1, .getfield 45, 4, 0), (4, .iload_n 1, 5, 0), (5, .iconst 1, 6, 0), (6, .iadd, 7, 0), (7, .iaload, 8, 0), (8, .istore_n 2, 9, 0), (9, .aload_n 0, 10, 0), (10, .getfield 45, 13, 0), (13, .iload_n 1, 14, 0), (14, .iconst 2, 15, 0), (15, .iadd, 16, 0), (16, .iaload, 17, 0), (17, .istore_n 3, 18, 0), (18, .aload_n 0, 19, 0), (19, .getfield 45, 22, 0), (22, .iload_n 1, 23, 0), (23, .iconst 3, 24, 0), (24, .iadd, 25, 0), (25, .iaload, 26, 0), (26, .istore 4, 28, 0), (28, .aload_n 0, 29, 0), (29, .getfield 45, 32, 0), (32, .iload_n 1, 33, 0), (33, .iaload, 34, 0), (34, .tableswitch 153 0 9 #[54, 62, 74, 83, 93, 102, 112, 122, 131, 141], 88, 0), (88, .aload_n 0, 89, 0), (89, .invokevirtual 94, 92, 0), (92, .pop, 93, 0), (93, .goto 101, 96, 194), (96, .aload_n 0, 97, 0), (97, .iload_n 2, 98, 0), (98, .iload_n 3, 99, 0), (99, .iload 4, 101, 0), (101, .invokevirtual 103, 104, 0), (104, .pop, 105, 0), (105, .goto 89, 108, 194), (108, .aload_n 0, 109, 0), (109, .iload_n 2, 110, 0), (110, .invokevirtual 106, 113, 0), (113, .pop, 114, 0), (114, .goto 80, 117, 194), (117, .aload_n 0, 118, 0), (118, .iload_n 2, 119, 0), (119, .iload_n 3, 120, 0), (120, .invokevirtual 114, 123, 0), (123, .pop, 124, 0), (124, .goto 70, 127, 194), (127, .aload_n 0, 128, 0), (128, .iload_n 2, 129, 0), (129, .invokevirtual 129, 132, 0), (132, .pop, 133, 0), (133, .goto 61, 136, 194), (136, .aload_n 0, 137, 0), (137, .iload_n 2, 138, 0), (138, .iload_n 3, 139, 0), (139, .invokevirtual 136, 142, 0), (142, .pop, 143, 0), (143, .goto 51, 146, 194), (146, .aload_n 0, 147, 0)]
theorem tX4_does_0_ok : pb_Tok cX4_does tX4_does_0 := pb_Tok.cons dX4_does_0 rfl (pb_Tok.cons dX4_does_1 rfl (pb_Tok.cons dX4_does_4 rfl (pb_Tok.cons dX4_does_5 rfl (pb_Tok.cons dX4_does_6 rfl (pb_Tok.cons dX4_does_7 rfl (pb_Tok.cons dX4_does_8 rfl (pb_Tok.cons dX4_does_9 rfl (pb_Tok.cons dX4_does_10 rfl (pb_Tok.cons dX4_does_13 rfl (pb_Tok.cons dX4_does_14 rfl (pb_Tok.cons dX4_does_15 rfl (pb_Tok.cons dX4_does_16 rfl (pb_Tok.cons dX4_does_17 rfl (pb_Tok.cons dX4_does_18 rfl (pb_Tok.cons dX4_does_19 rfl (pb_Tok.cons dX4_does_22 rfl (pb_Tok.cons dX4_does_23 rfl (pb_Tok.cons dX4_does_24 rfl (pb_Tok.cons dX4_does_25 rfl (pb_Tok.cons dX4_does_26 rfl (pb_Tok.cons dX4_does_28 rfl (pb_Tok.cons dX4_does_29 rfl (pb_Tok.cons dX4_does_32 rfl (pb_Tok.cons dX4_does_33 rfl (pb_Tok.cons dX4_does_34 rfl (pb_Tok.cons dX4_does_88 rfl (pb_Tok.cons dX4_does_89 rfl (pb_Tok.cons dX4_does_92 rfl (pb_Tok.cons dX4_does_93 rfl (pb_Tok.cons dX4_does_96 rfl (pb_Tok.cons dX4_does_97 rfl (pb_Tok.cons dX4_does_98 rfl (pb_Tok.cons dX4_does_99 rfl (pb_Tok.cons dX4_does_101 rfl (pb_Tok.cons dX4_does_104 rfl (pb_Tok.cons dX4_does_105 rfl (pb_Tok.cons dX4_does_108 rfl (pb_Tok.cons dX4_does_109 rfl (pb_Tok.cons dX4_does_110 rfl (pb_Tok.cons dX4_does_113 rfl (pb_Tok.cons dX4_does_114 rfl (pb_Tok.cons dX4_does_117 rfl (pb_Tok.cons dX4_does_118 rfl (pb_Tok.cons dX4_does_119 rfl (pb_Tok.cons dX4_does_120 rfl (pb_Tok.cons dX4_does_123 rfl (pb_Tok.cons dX4_does_124 rfl (pb_Tok.cons dX4_does_127 rfl (pb_Tok.cons dX4_does_128 rfl (pb_Tok.cons dX4_does_129 rfl (pb_Tok.cons dX4_does_132 rfl (pb_Tok.cons dX4_does_133 rfl (pb_Tok.cons dX4_does_136 rfl (pb_Tok.cons dX4_does_137 rfl (pb_Tok.cons dX4_does_138 rfl (pb_Tok.cons dX4_does_139 rfl (pb_Tok.cons dX4_does_142 rfl (pb_Tok.cons dX4_does_143 rfl (pb_Tok.cons dX4_does_146 rfl pb_Tok.nil)))))))))))))))))))))))))))))))))))))))))))))))))))))))))))
def tX4_does_1 : pb_T := [(147, .iload_n 2, 148, 0), (148, .iload_n 3, 149, 0), (149, .invokevirtual 139, 152, 0), (152, .pop, 153, 0), (153, .goto 41, 156, 194), (156, .aload_n 0, 157, 0), (157, .iload_n 2, 158, 0), (158, .invokevirtual 154, 161, 0), (161, .pop, 162, 0), (162, .goto 32, 165, 194), (165, .aload_n 0, 166, 0), (166, .iload_n 2, 167, 0), (167, .iload_n 3, 168, 0), (168, .invokevirtual 146, 171, 0), (171, .pop, 172, 0), (172, .goto 22, 175, 194), (175, .aload_n 0, 176, 0), (176, .iload_n 2, 177, 0), (177, .iload_n 3, 178, 0), (178, .iload 4, 180, 0), (180, .invokevirtual 163, 183, 0), (183, .pop, 184, 0), (184, .goto 10, 187, 194), (187, .aload_n 0, 188, 0), (188, .iload_n 2, 189, 0), (189, .iload_n 3, 190, 0), (190, .invokevirtual 172, 193, 0), (193, .pop, 194, 0), (194, .return_, 195, 0)]
theorem tX4_does_1_ok : pb_Tok cX4_does tX4_does_1 := pb_Tok.cons dX4_does_147 rfl (pb_Tok.cons dX4_does_148 rfl (pb_Tok.cons dX4_does_149 rfl (pb_Tok.cons dX4_does_152 rfl (pb_Tok.cons dX4_does_153 rfl (pb_Tok.cons dX4_does_156 rfl (pb_Tok.cons dX4_does_157 rfl (pb_Tok.cons dX4_does_158 rfl (pb_Tok.cons dX4_does_161 rfl (pb_Tok.cons dX4_does_162 rfl (pb_Tok.cons dX4_does_165 rfl (pb_Tok.cons dX4_does_166 rfl (pb_Tok.cons dX4_does_167 rfl (pb_Tok.cons dX4_does_168 rfl (pb_Tok.cons dX4_does_171 rfl (pb_Tok.cons dX4_does_172 rfl (pb_Tok.cons dX4_does_175 rfl (pb_Tok.cons dX4_does_176 rfl (pb_Tok.cons dX4_does_177 rfl (pb_Tok.cons dX4_does_178 rfl (pb_Tok.cons dX4_does_180 rfl (pb_Tok.cons dX4_does_183 rfl (pb_Tok.cons dX4_does_184 rfl (pb_Tok.cons dX4_does_187 rfl (pb_Tok.cons dX4_does_188 rfl (pb_Tok.cons dX4_does_189 rfl (pb_Tok.cons dX4_does_190 rfl (pb_Tok.cons dX4_does_193 rfl (pb_Tok.cons dX4_does_194 rfl pb_Tok.nil))))))))))))))))))))))))))))
def tX4_does : pb_T := tX4_does_0 ++ (tX4_does_1)
theorem tX4_does_ok : pb_Tok cX4_does tX4_does := pb_Tok.app tX4_does_0_ok (tX4_does_1_ok)
def tX4_errorPosition : pb_T := [(0, .aload_n 0, 1, 0), (1, .iconst 0, 2, 0), (2, .putfield 48, 5, 0), (5, .aload_n 0, 6, 0), (6, .getfield 22, 9, 0), (9, .iconst (-1), 10, 0), (10, .if_icmp .ne 11, 13, 21), (13, .aload_n 0, 14, 0), (14, .iconst 1, 15, 0), (15, .invokevirtual 88, 18, 0), (18, .goto 7, 21, 25), (21, .aload_n 0, 22, 0), (22, .getfield 22, 25, 0), (25, .ireturn, 26, 0)]
theorem tX4_errorPosition_ok : pb_Tok cX4_errorPosition tX4_errorPosition := pb_Tok.cons dX4_errorPosition_0 rfl (pb_Tok.cons dX4_errorPosition_1 rfl (pb_Tok.cons dX4_errorPosition_2 rfl (pb_Tok.cons dX4_errorPosition_5 rfl (pb_Tok.cons dX4_errorPosition_6 rfl (pb_Tok.cons dX4_errorPosition_9 rfl (pb_Tok.cons dX4_errorPosition_10 rfl (pb_Tok.cons dX4_errorPosition_13 rfl (pb_Tok.cons dX4_errorPosition_14 rfl (pb_Tok.cons dX4_errorPosition_15 rfl (pb_Tok.cons dX4_errorPosition_18 rfl (pb_Tok.cons dX4_errorPosition_21 rfl (pb_Tok.cons dX4_errorPosition_22 rfl (pb_Tok.cons dX4_errorPosition_25 rfl pb_Tok.nil)))))))))))))
def tX4_failedCommand : pb_T := [(0, .aload_n 0, 1, 0), (1, .iconst 0, 2, 0), (2, .putfield 48, 5, 0), (5, .aload_n 0, 6, 0), (6, .getfield 26, 9, 0), (9, .iconst (-1), 10, 0), (10, .if_icmp .ne 11, 13, 21), (13, .aload_n 0, 14, 0), (14, .iconst 1, 15, 0), (15, .invokevirtual 88, 18, 0), (18, .goto 7, 21, 25), (21, .aload_n 0, 22, 0), (22, .getfield 26, 25, 0), (25, .ireturn, 26, 0)]
theorem tX4_failedCommand_ok : pb_Tok cX4_failedCommand tX4_failedCommand := pb_Tok.cons dX4_failedCommand_0 rfl (pb_Tok.cons dX4_failedCommand_1 rfl (pb_Tok.cons dX4_failedCommand_2 rfl (pb_Tok.cons dX4_failedCommand_5 rfl (pb_Tok.cons dX4_failedCommand_6 rfl (pb_Tok.cons dX4_failedCommand_9 rfl (pb_Tok.cons dX4_failedCommand_10 rfl (pb_Tok.cons dX4_failedCommand_13 rfl (pb_Tok.cons dX4_failedCommand_14 rfl (pb_Tok.cons dX4_failedCommand_15 rfl (pb_Tok.cons dX4_failedCommand_18 rfl (pb_Tok.cons dX4_failedCommand_21 rfl (pb_Tok.cons dX4_failedCommand_22 rfl (pb_Tok.cons dX4_failedCommand_25 rfl pb_Tok.nil)))))))))))))
def tX4_undo : pb_T := [(0, .aload_n 0, 1, 0), (1, .iconst 0, 2, 0), (2, .putfield 48, 5, 0), (5, .aload_n 0, 6, 0), (6, .getfield 51, 9, 0), (9, .ifCond .ne 9, 12, 18), (12, .aload_n 0, 13, 0), (13, .iconst 1, 14, 0), (14, .invokevirtual 88, 17, 0), (17, .ireturn, 18, 0), (18, .aload_n 0, 19, 0), (19, .dup, 20, 0), (20, .getfield 51, 23, 0), (23, .iconst 1, 24, 0), (24, .isub, 25, 0), (25, .putfield 51, 28, 0), (28, .iconst 0, 29, 0), (29, .istore_n 1, 30, 0), (30, .iload_n 1, 31, 1), (31, .sipush 213, 34, 0), (34, .if_icmp .ge 30, 37, 64), (37, .aload_n 0, 38, 0), (38, .getfield 9, 41, 0), (41, .iload_n 1, 42, 0), (42, .aload_n 0, 43, 0), (43, .getfield 19, 46, 0), (46, .sipush 213, 49, 0), (49, .aload_n 0, 50, 0), (50, .getfield 51, 53, 0), (53, .imul, 54, 0), (54, .iload_n 1, 55, 0), (55, .iadd, 56, 0), (56, .iaload, 57, 0), (57, .iastore, 58, 0), (58, .iinc 1 1, 61, 0), (61, .goto (-31), 64, 30), (64, .aload_n 0, 65, 0), (65, .getfield 51, 68, 0), (68, .ireturn, 69, 0)]
theorem tX4_undo_ok : pb_Tok cX4_undo tX4_undo := pb_Tok.cons dX4_undo_0 rfl (pb_Tok.cons dX4_undo_1 rfl (pb_Tok.cons dX4_undo_2 rfl (pb_Tok.cons dX4_undo_5 rfl (pb_Tok.cons dX4_undo_6 rfl (pb_Tok.cons dX4_undo_9 rfl (pb_Tok.cons dX4_undo_12 rfl (pb_Tok.cons dX4_undo_13 rfl (pb_Tok.cons dX4_undo_14 rfl (pb_Tok.cons dX4_undo_17 rfl (pb_Tok.cons dX4_undo_18 rfl (pb_Tok.cons dX4_undo_19 rfl (pb_Tok.cons dX4_undo_20 rfl (pb_Tok.cons dX4_undo_23 rfl (pb_Tok.cons dX4_undo_24 rfl (pb_Tok.cons dX4_undo_25 rfl (pb_Tok.cons dX4_undo_28 rfl (pb_Tok.cons dX4_undo_29 rfl (pb_Tok.cons dX4_undo_30 rfl (pb_Tok.cons dX4_undo_31 rfl (pb_Tok.cons dX4_undo_34 rfl (pb_Tok.cons dX4_undo_37 rfl (pb_Tok.cons dX4_undo_38 rfl (pb_Tok.cons dX4_undo_41 rfl (pb_Tok.cons dX4_undo_42 rfl (pb_Tok.cons dX4_undo_43 rfl (pb_Tok.cons dX4_undo_46 rfl (pb_Tok.cons dX4_undo_49 rfl (pb_Tok.cons dX4_undo_50 rfl (pb_Tok.cons dX4_undo_53 rfl (pb_Tok.cons dX4_undo_54 rfl (pb_Tok.cons dX4_undo_55 rfl (pb_Tok.cons dX4_undo_56 rfl (pb_Tok.cons dX4_undo_57 rfl (pb_Tok.cons dX4_undo_58 rfl (pb_Tok.cons dX4_undo_61 rfl (pb_Tok.cons dX4_undo_64 rfl (pb_Tok.cons dX4_undo_65 rfl (pb_Tok.cons dX4_undo_68 rfl pb_Tok.nil))))))))))))))))))))))))))))))))))))))
def tX4_save : pb_T := [(0, .aload_n 0, 1, 0), (1, .iconst 0, 2, 0), (2, .putfield 48, 5, 0), (5, .iconst 0, 6, 0), (6, .istore_n 1, 7, 0), (7, .iload_n 1, 8, 1), (8, .sipush 213, 11, 0), (11, .if_icmp .ge 21, 14, 32), (14, .aload_n 0, 15, 0), (15, .getfield 16, 18, 0), (18, .iload_n 1, 19, 0), (19, .aload_n 0, 20, 0), (20, .getfield 9, 23, 0), (23, .iload_n 1, 24, 0), (24, .iaload, 25, 0), (25, .iastore, 26, 0), (26, .iinc 1 1, 29, 0), (29, .goto (-22), 32, 7), (32, .aload_n 0, 33, 0), (33, .iconst 1, 34, 0), (34, .putfield 281, 37, 0), (37, .aload_n 0, 38, 0), (38, .getfield 9, 41, 0), (41, .iconst 1, 42, 0), (42, .iaload, 43, 0), (43, .ireturn, 44, 0)]
theorem tX4_save_ok : pb_Tok cX4_save tX4_save := pb_Tok.cons dX4_save_0 rfl (pb_Tok.cons dX4_save_1 rfl (pb_Tok.cons dX4_save_2 rfl (pb_Tok.cons dX4_save_5 rfl (pb_Tok.cons dX4_save_6 rfl (pb_Tok.cons dX4_save_7 rfl (pb_Tok.cons dX4_save_8 rfl (pb_Tok.cons dX4_save_11 rfl (pb_Tok.cons dX4_save_14 rfl (pb_Tok.cons dX4_save_15 rfl (pb_Tok.cons dX4_save_18 rfl (pb_Tok.cons dX4_save_19 rfl (pb_Tok.cons dX4_save_20 rfl (pb_Tok.cons dX4_save_23 rfl (pb_Tok.cons dX4_save_24 rfl (pb_Tok.cons dX4_save_25 rfl (pb_Tok.cons dX4_save_26 rfl (pb_Tok.cons dX4_save_29 rfl (pb_Tok.cons dX4_save_32 rfl (pb_Tok.cons dX4_save_33 rfl (pb_Tok.cons dX4_save_34 rfl (pb_Tok.cons dX4_save_37 rfl (pb_Tok.cons dX4_save_38 rfl (pb_Tok.cons dX4_save_41 rfl (pb_Tok.cons dX4_save_42 rfl (pb_Tok.cons dX4_save_43 rfl pb_Tok.nil)))))))))))))))))))))))))
def tX4_restore : pb_T := [(0, .aload_n 0, 1, 0), (1, .iconst 0, 2, 0), (2, .putfield 48, 5, 0), (5, .aload_n 0, 6, 0), (6, .getfield 281, 9, 0), (9, .ifCond .ne 9, 12, 18), (12, .aload_n 0, 13, 0), (13, .iconst 1, 14, 0), (14, .invokevirtual 88, 17, 0), (17, .ireturn, 18, 0), (18, .iconst 0, 19, 0), (19, .istore_n 1, 20, 0), (20, .iload_n 1, 21, 1), (21, .sipush 213, 24, 0), (24, .if_icmp .ge 21, 27, 45), (27, .aload_n 0, 28, 0), (28, .getfield 9, 31, 0), (31, .iload_n 1, 32, 0), (32, .aload_n 0, 33, 0), (33, .getfield 16, 36, 0), (36, .iload_n 1, 37, 0), (37, .iaload, 38, 0), (38, .iastore, 39, 0), (39, .iinc 1 1, 42, 0), (42, .goto (-22), 45, 20), (45, .aload_n 0, 46, 0), (46, .iconst 0, 47, 0), (47, .putfield 51, 50, 0), (50, .aload_n 0, 51, 0), (51, .getfield 9, 54, 0), (54, .iconst 1, 55, 0), (55, .iaload, 56, 0), (56, .ireturn, 57, 0)]
theorem tX4_restore_ok : pb_Tok cX4_restore tX4_restore := pb_Tok.cons dX4_restore_0 rfl (pb_Tok.cons dX4_restore_1 rfl (pb_Tok.cons dX4_restore_2 rfl (pb_Tok.cons dX4_restore_5 rfl (pb_Tok.cons dX4_restore_6 rfl (pb_Tok.cons dX4_restore_9 rfl (pb_Tok.cons dX4_restore_12 rfl (pb_Tok.cons dX4_restore_13 rfl (pb_Tok.cons dX4_restore_14 rfl (pb_Tok.cons dX4_restore_17 rfl (pb_Tok.cons dX4_restore_18 rfl (pb_Tok.cons dX4_restore_19 rfl (pb_Tok.cons dX4_restore_20 rfl (pb_Tok.cons dX4_restore_21 rfl (pb_Tok.cons dX4_restore_24 rfl (pb_Tok.cons dX4_restore_27 rfl (pb_Tok.cons dX4_restore_28 rfl (pb_Tok.cons dX4_restore_31 rfl (pb_Tok.cons dX4_restore_32 rfl (pb_Tok.cons dX4_restore_33 rfl (pb_Tok.cons dX4_restore_36 rfl (pb_Tok.cons dX4_restore_37 rfl (pb_Tok.cons dX4_restore_38 rfl (pb_Tok.cons dX4_restore_39 rfl (pb_Tok.cons dX4_restore_42 rfl (pb_Tok.cons dX4_restore_45 rfl (pb_Tok.cons dX4_restore_46 rfl (pb_Tok.cons dX4_restore_47 rfl (pb_Tok.cons dX4_restore_50 rfl (pb_Tok.cons dX4_restore_51 rfl (pb_Tok.cons dX4_restore_54 rfl (pb_Tok.cons dX4_restore_55 rfl (pb_Tok.cons dX4_restore_56 rfl pb_Tok.nil))))))))))))))))))))))))))))))))
