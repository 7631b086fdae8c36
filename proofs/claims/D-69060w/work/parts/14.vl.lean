set_option maxRecDepth 100000
/-- the byte at a place -/
def gb (c : ByteArray) (p : Nat) : Option Nat := if h : p < c.size then some (c[p].toNat) else none
def sg (c : ByteArray) : Nat → List Nat → Prop
  | _, [] => True
  | p, b :: r => gb c p = some b ∧ sg c (p + 1) r
def sgl : List UInt8 → List Nat → Bool
  | _, [] => true
  | [], _ :: _ => false
  | x :: l, b :: r => Nat.beq x.toNat b && sgl l r
def sgb (c : ByteArray) (p : Nat) (l : List Nat) : Bool := sgl (c.data.toList.drop p) l
theorem sg_of {c : ByteArray} : ∀ {l : List Nat} {p : Nat}, sgb c p l = true → sg c p l
  | [], _, _ => trivial
  | b :: r, p, h => by
    unfold sgb at h
    have hs : c.size = c.data.toList.length := rfl
    by_cases hp : p < c.size
    · have e : c.data.toList.drop p = c.data.toList[p]'(by rw [← hs]; exact hp) :: c.data.toList.drop (p + 1) := List.drop_eq_getElem_cons _
      rw [e] at h
      unfold sgl at h
      rw [Bool.and_eq_true] at h
      refine ⟨?_, sg_of (p := p + 1) h.2⟩
      unfold gb
      rw [dif_pos hp, ← Nat.eq_of_beq_eq_true h.1]
      rfl
    · rw [List.drop_eq_nil_of_le (by rw [← hs]; omega)] at h
      exact absurd h Bool.false_ne_true
theorem run_u1 {c : ByteArray} {p b : Nat} (h : gb c p = some b) : (Jvm.ClassFile.Reader.u1 : Jvm.ClassFile.Decoder Nat).runAt c p = .ok (b, p + 1) := by
  unfold gb at h
  split at h
  · next hp =>
    cases h
    show ((if h : p < c.size then (do set (p + 1); pure c[p].toNat) else throw (Jvm.ClassFile.HasTruncated.truncated p) : Jvm.ClassFile.Decoder Nat)) c p = _
    rw [dif_pos hp]; rfl
  · cases h
theorem run_bind {α β : Type} (x : Jvm.ClassFile.Decoder α) (g : α → Jvm.ClassFile.Decoder β) {c : ByteArray} {p q : Nat} {a : α} (h : x.runAt c p = .ok (a, q)) : (x >>= g).runAt c p = (g a).runAt c q := by
  show Except.bind (x c p) (fun r => g r.1 c r.2) = _
  rw [show x c p = .ok (a, q) from h]; rfl
theorem run_map {α β : Type} (f : α → β) (x : Jvm.ClassFile.Decoder α) {c : ByteArray} {p q : Nat} {a : α} (h : x.runAt c p = .ok (a, q)) : (f <$> x).runAt c p = .ok (f a, q) := by
  show Except.bind (x c p) (fun r => Except.ok (f r.1, r.2)) = _
  rw [show x c p = .ok (a, q) from h]; rfl
theorem run_u2 {c : ByteArray} {p b1 b2 : Nat} (h1 : gb c p = some b1) (h2 : gb c (p + 1) = some b2) : (Jvm.ClassFile.Reader.u2 : Jvm.ClassFile.Decoder Nat).runAt c p = .ok (b1 * 256 + b2, p + 2) :=
  (run_bind Jvm.ClassFile.Reader.u1 _ (run_u1 h1)).trans ((run_bind Jvm.ClassFile.Reader.u1 _ (run_u1 h2)).trans rfl)
theorem run_s2 {c : ByteArray} {p b1 b2 : Nat} (h1 : gb c p = some b1) (h2 : gb c (p + 1) = some b2) : (Jvm.ClassFile.Reader.s2 : Jvm.ClassFile.Decoder Int).runAt c p = .ok (Jvm.ClassFile.Reader.signed 16 (b1 * 256 + b2), p + 2) := run_map _ _ (run_u2 h1 h2)
theorem run_s1 {c : ByteArray} {p b1 : Nat} (h1 : gb c p = some b1) : (Jvm.ClassFile.Reader.s1 : Jvm.ClassFile.Decoder Int).runAt c p = .ok (Jvm.ClassFile.Reader.signed 8 b1, p + 1) := run_map _ _ (run_u1 h1)
theorem dec_of {c : ByteArray} {pc q n : Nat} {i : Instr} (h : (Jvm.ClassFile.Decoder.instr pc).runAt c pc = .ok (i, q)) (hn : q = pc + n) : decode c pc = .ok (i, n) := by
  unfold Jvm.ClassFile.decode
  rw [h]; subst hn
  show Except.ok (i, pc + n - pc) = _
  rw [Nat.add_sub_cancel_left]
def sg8 (b : Nat) : Int := Jvm.ClassFile.Reader.signed 8 b
def sg16 (b : Nat) : Int := Jvm.ClassFile.Reader.signed 16 b
theorem dc_1 {c : ByteArray} {pc : Nat} (h : gb c pc = some 1) : decode c pc = .ok (.aconst_null, 1) := dec_of ((run_bind Jvm.ClassFile.Reader.u1 _ (run_u1 h)).trans rfl) rfl
theorem dc_2 {c : ByteArray} {pc : Nat} (h : gb c pc = some 2) : decode c pc = .ok (.iconst (-1), 1) := dec_of ((run_bind Jvm.ClassFile.Reader.u1 _ (run_u1 h)).trans rfl) rfl
theorem dc_3 {c : ByteArray} {pc : Nat} (h : gb c pc = some 3) : decode c pc = .ok (.iconst 0, 1) := dec_of ((run_bind Jvm.ClassFile.Reader.u1 _ (run_u1 h)).trans rfl) rfl
theorem dc_4 {c : ByteArray} {pc : Nat} (h : gb c pc = some 4) : decode c pc = .ok (.iconst 1, 1) := dec_of ((run_bind Jvm.ClassFile.Reader.u1 _ (run_u1 h)).trans rfl) rfl
theorem dc_5 {c : ByteArray} {pc : Nat} (h : gb c pc = some 5) : decode c pc = .ok (.iconst 2, 1) := dec_of ((run_bind Jvm.ClassFile.Reader.u1 _ (run_u1 h)).trans rfl) rfl
theorem dc_6 {c : ByteArray} {pc : Nat} (h : gb c pc = some 6) : decode c pc = .ok (.iconst 3, 1) := dec_of ((run_bind Jvm.ClassFile.Reader.u1 _ (run_u1 h)).trans rfl) rfl
theorem dc_7 {c : ByteArray} {pc : Nat} (h : gb c pc = some 7) : decode c pc = .ok (.iconst 4, 1) := dec_of ((run_bind Jvm.ClassFile.Reader.u1 _ (run_u1 h)).trans rfl) rfl
theorem dc_8 {c : ByteArray} {pc : Nat} (h : gb c pc = some 8) : decode c pc = .ok (.iconst 5, 1) := dec_of ((run_bind Jvm.ClassFile.Reader.u1 _ (run_u1 h)).trans rfl) rfl
theorem dc_9 {c : ByteArray} {pc : Nat} (h : gb c pc = some 9) : decode c pc = .ok (.lconst 0, 1) := dec_of ((run_bind Jvm.ClassFile.Reader.u1 _ (run_u1 h)).trans rfl) rfl
theorem dc_10 {c : ByteArray} {pc : Nat} (h : gb c pc = some 10) : decode c pc = .ok (.lconst 1, 1) := dec_of ((run_bind Jvm.ClassFile.Reader.u1 _ (run_u1 h)).trans rfl) rfl
theorem dc_26 {c : ByteArray} {pc : Nat} (h : gb c pc = some 26) : decode c pc = .ok (.iload_n 0, 1) := dec_of ((run_bind Jvm.ClassFile.Reader.u1 _ (run_u1 h)).trans rfl) rfl
theorem dc_27 {c : ByteArray} {pc : Nat} (h : gb c pc = some 27) : decode c pc = .ok (.iload_n 1, 1) := dec_of ((run_bind Jvm.ClassFile.Reader.u1 _ (run_u1 h)).trans rfl) rfl
theorem dc_28 {c : ByteArray} {pc : Nat} (h : gb c pc = some 28) : decode c pc = .ok (.iload_n 2, 1) := dec_of ((run_bind Jvm.ClassFile.Reader.u1 _ (run_u1 h)).trans rfl) rfl
theorem dc_29 {c : ByteArray} {pc : Nat} (h : gb c pc = some 29) : decode c pc = .ok (.iload_n 3, 1) := dec_of ((run_bind Jvm.ClassFile.Reader.u1 _ (run_u1 h)).trans rfl) rfl
theorem dc_30 {c : ByteArray} {pc : Nat} (h : gb c pc = some 30) : decode c pc = .ok (.lload_n 0, 1) := dec_of ((run_bind Jvm.ClassFile.Reader.u1 _ (run_u1 h)).trans rfl) rfl
theorem dc_31 {c : ByteArray} {pc : Nat} (h : gb c pc = some 31) : decode c pc = .ok (.lload_n 1, 1) := dec_of ((run_bind Jvm.ClassFile.Reader.u1 _ (run_u1 h)).trans rfl) rfl
theorem dc_32 {c : ByteArray} {pc : Nat} (h : gb c pc = some 32) : decode c pc = .ok (.lload_n 2, 1) := dec_of ((run_bind Jvm.ClassFile.Reader.u1 _ (run_u1 h)).trans rfl) rfl
theorem dc_33 {c : ByteArray} {pc : Nat} (h : gb c pc = some 33) : decode c pc = .ok (.lload_n 3, 1) := dec_of ((run_bind Jvm.ClassFile.Reader.u1 _ (run_u1 h)).trans rfl) rfl
theorem dc_42 {c : ByteArray} {pc : Nat} (h : gb c pc = some 42) : decode c pc = .ok (.aload_n 0, 1) := dec_of ((run_bind Jvm.ClassFile.Reader.u1 _ (run_u1 h)).trans rfl) rfl
theorem dc_43 {c : ByteArray} {pc : Nat} (h : gb c pc = some 43) : decode c pc = .ok (.aload_n 1, 1) := dec_of ((run_bind Jvm.ClassFile.Reader.u1 _ (run_u1 h)).trans rfl) rfl
theorem dc_44 {c : ByteArray} {pc : Nat} (h : gb c pc = some 44) : decode c pc = .ok (.aload_n 2, 1) := dec_of ((run_bind Jvm.ClassFile.Reader.u1 _ (run_u1 h)).trans rfl) rfl
theorem dc_45 {c : ByteArray} {pc : Nat} (h : gb c pc = some 45) : decode c pc = .ok (.aload_n 3, 1) := dec_of ((run_bind Jvm.ClassFile.Reader.u1 _ (run_u1 h)).trans rfl) rfl
theorem dc_46 {c : ByteArray} {pc : Nat} (h : gb c pc = some 46) : decode c pc = .ok (.iaload, 1) := dec_of ((run_bind Jvm.ClassFile.Reader.u1 _ (run_u1 h)).trans rfl) rfl
theorem dc_47 {c : ByteArray} {pc : Nat} (h : gb c pc = some 47) : decode c pc = .ok (.laload, 1) := dec_of ((run_bind Jvm.ClassFile.Reader.u1 _ (run_u1 h)).trans rfl) rfl
theorem dc_50 {c : ByteArray} {pc : Nat} (h : gb c pc = some 50) : decode c pc = .ok (.aaload, 1) := dec_of ((run_bind Jvm.ClassFile.Reader.u1 _ (run_u1 h)).trans rfl) rfl
theorem dc_51 {c : ByteArray} {pc : Nat} (h : gb c pc = some 51) : decode c pc = .ok (.baload, 1) := dec_of ((run_bind Jvm.ClassFile.Reader.u1 _ (run_u1 h)).trans rfl) rfl
theorem dc_59 {c : ByteArray} {pc : Nat} (h : gb c pc = some 59) : decode c pc = .ok (.istore_n 0, 1) := dec_of ((run_bind Jvm.ClassFile.Reader.u1 _ (run_u1 h)).trans rfl) rfl
theorem dc_60 {c : ByteArray} {pc : Nat} (h : gb c pc = some 60) : decode c pc = .ok (.istore_n 1, 1) := dec_of ((run_bind Jvm.ClassFile.Reader.u1 _ (run_u1 h)).trans rfl) rfl
theorem dc_61 {c : ByteArray} {pc : Nat} (h : gb c pc = some 61) : decode c pc = .ok (.istore_n 2, 1) := dec_of ((run_bind Jvm.ClassFile.Reader.u1 _ (run_u1 h)).trans rfl) rfl
theorem dc_62 {c : ByteArray} {pc : Nat} (h : gb c pc = some 62) : decode c pc = .ok (.istore_n 3, 1) := dec_of ((run_bind Jvm.ClassFile.Reader.u1 _ (run_u1 h)).trans rfl) rfl
theorem dc_63 {c : ByteArray} {pc : Nat} (h : gb c pc = some 63) : decode c pc = .ok (.lstore_n 0, 1) := dec_of ((run_bind Jvm.ClassFile.Reader.u1 _ (run_u1 h)).trans rfl) rfl
theorem dc_64 {c : ByteArray} {pc : Nat} (h : gb c pc = some 64) : decode c pc = .ok (.lstore_n 1, 1) := dec_of ((run_bind Jvm.ClassFile.Reader.u1 _ (run_u1 h)).trans rfl) rfl
theorem dc_65 {c : ByteArray} {pc : Nat} (h : gb c pc = some 65) : decode c pc = .ok (.lstore_n 2, 1) := dec_of ((run_bind Jvm.ClassFile.Reader.u1 _ (run_u1 h)).trans rfl) rfl
theorem dc_66 {c : ByteArray} {pc : Nat} (h : gb c pc = some 66) : decode c pc = .ok (.lstore_n 3, 1) := dec_of ((run_bind Jvm.ClassFile.Reader.u1 _ (run_u1 h)).trans rfl) rfl
theorem dc_75 {c : ByteArray} {pc : Nat} (h : gb c pc = some 75) : decode c pc = .ok (.astore_n 0, 1) := dec_of ((run_bind Jvm.ClassFile.Reader.u1 _ (run_u1 h)).trans rfl) rfl
theorem dc_76 {c : ByteArray} {pc : Nat} (h : gb c pc = some 76) : decode c pc = .ok (.astore_n 1, 1) := dec_of ((run_bind Jvm.ClassFile.Reader.u1 _ (run_u1 h)).trans rfl) rfl
theorem dc_77 {c : ByteArray} {pc : Nat} (h : gb c pc = some 77) : decode c pc = .ok (.astore_n 2, 1) := dec_of ((run_bind Jvm.ClassFile.Reader.u1 _ (run_u1 h)).trans rfl) rfl
theorem dc_78 {c : ByteArray} {pc : Nat} (h : gb c pc = some 78) : decode c pc = .ok (.astore_n 3, 1) := dec_of ((run_bind Jvm.ClassFile.Reader.u1 _ (run_u1 h)).trans rfl) rfl
theorem dc_79 {c : ByteArray} {pc : Nat} (h : gb c pc = some 79) : decode c pc = .ok (.iastore, 1) := dec_of ((run_bind Jvm.ClassFile.Reader.u1 _ (run_u1 h)).trans rfl) rfl
theorem dc_80 {c : ByteArray} {pc : Nat} (h : gb c pc = some 80) : decode c pc = .ok (.lastore, 1) := dec_of ((run_bind Jvm.ClassFile.Reader.u1 _ (run_u1 h)).trans rfl) rfl
theorem dc_83 {c : ByteArray} {pc : Nat} (h : gb c pc = some 83) : decode c pc = .ok (.aastore, 1) := dec_of ((run_bind Jvm.ClassFile.Reader.u1 _ (run_u1 h)).trans rfl) rfl
theorem dc_84 {c : ByteArray} {pc : Nat} (h : gb c pc = some 84) : decode c pc = .ok (.bastore, 1) := dec_of ((run_bind Jvm.ClassFile.Reader.u1 _ (run_u1 h)).trans rfl) rfl
theorem dc_87 {c : ByteArray} {pc : Nat} (h : gb c pc = some 87) : decode c pc = .ok (.pop, 1) := dec_of ((run_bind Jvm.ClassFile.Reader.u1 _ (run_u1 h)).trans rfl) rfl
theorem dc_89 {c : ByteArray} {pc : Nat} (h : gb c pc = some 89) : decode c pc = .ok (.dup, 1) := dec_of ((run_bind Jvm.ClassFile.Reader.u1 _ (run_u1 h)).trans rfl) rfl
theorem dc_92 {c : ByteArray} {pc : Nat} (h : gb c pc = some 92) : decode c pc = .ok (.dup2, 1) := dec_of ((run_bind Jvm.ClassFile.Reader.u1 _ (run_u1 h)).trans rfl) rfl
theorem dc_96 {c : ByteArray} {pc : Nat} (h : gb c pc = some 96) : decode c pc = .ok (.iadd, 1) := dec_of ((run_bind Jvm.ClassFile.Reader.u1 _ (run_u1 h)).trans rfl) rfl
theorem dc_97 {c : ByteArray} {pc : Nat} (h : gb c pc = some 97) : decode c pc = .ok (.ladd, 1) := dec_of ((run_bind Jvm.ClassFile.Reader.u1 _ (run_u1 h)).trans rfl) rfl
theorem dc_100 {c : ByteArray} {pc : Nat} (h : gb c pc = some 100) : decode c pc = .ok (.isub, 1) := dec_of ((run_bind Jvm.ClassFile.Reader.u1 _ (run_u1 h)).trans rfl) rfl
theorem dc_101 {c : ByteArray} {pc : Nat} (h : gb c pc = some 101) : decode c pc = .ok (.lsub, 1) := dec_of ((run_bind Jvm.ClassFile.Reader.u1 _ (run_u1 h)).trans rfl) rfl
theorem dc_104 {c : ByteArray} {pc : Nat} (h : gb c pc = some 104) : decode c pc = .ok (.imul, 1) := dec_of ((run_bind Jvm.ClassFile.Reader.u1 _ (run_u1 h)).trans rfl) rfl
theorem dc_105 {c : ByteArray} {pc : Nat} (h : gb c pc = some 105) : decode c pc = .ok (.lmul, 1) := dec_of ((run_bind Jvm.ClassFile.Reader.u1 _ (run_u1 h)).trans rfl) rfl
theorem dc_108 {c : ByteArray} {pc : Nat} (h : gb c pc = some 108) : decode c pc = .ok (.idiv, 1) := dec_of ((run_bind Jvm.ClassFile.Reader.u1 _ (run_u1 h)).trans rfl) rfl
theorem dc_112 {c : ByteArray} {pc : Nat} (h : gb c pc = some 112) : decode c pc = .ok (.irem, 1) := dec_of ((run_bind Jvm.ClassFile.Reader.u1 _ (run_u1 h)).trans rfl) rfl
theorem dc_116 {c : ByteArray} {pc : Nat} (h : gb c pc = some 116) : decode c pc = .ok (.ineg, 1) := dec_of ((run_bind Jvm.ClassFile.Reader.u1 _ (run_u1 h)).trans rfl) rfl
theorem dc_120 {c : ByteArray} {pc : Nat} (h : gb c pc = some 120) : decode c pc = .ok (.ishl, 1) := dec_of ((run_bind Jvm.ClassFile.Reader.u1 _ (run_u1 h)).trans rfl) rfl
theorem dc_121 {c : ByteArray} {pc : Nat} (h : gb c pc = some 121) : decode c pc = .ok (.lshl, 1) := dec_of ((run_bind Jvm.ClassFile.Reader.u1 _ (run_u1 h)).trans rfl) rfl
theorem dc_122 {c : ByteArray} {pc : Nat} (h : gb c pc = some 122) : decode c pc = .ok (.ishr, 1) := dec_of ((run_bind Jvm.ClassFile.Reader.u1 _ (run_u1 h)).trans rfl) rfl
theorem dc_123 {c : ByteArray} {pc : Nat} (h : gb c pc = some 123) : decode c pc = .ok (.lshr, 1) := dec_of ((run_bind Jvm.ClassFile.Reader.u1 _ (run_u1 h)).trans rfl) rfl
theorem dc_124 {c : ByteArray} {pc : Nat} (h : gb c pc = some 124) : decode c pc = .ok (.iushr, 1) := dec_of ((run_bind Jvm.ClassFile.Reader.u1 _ (run_u1 h)).trans rfl) rfl
theorem dc_125 {c : ByteArray} {pc : Nat} (h : gb c pc = some 125) : decode c pc = .ok (.lushr, 1) := dec_of ((run_bind Jvm.ClassFile.Reader.u1 _ (run_u1 h)).trans rfl) rfl
theorem dc_126 {c : ByteArray} {pc : Nat} (h : gb c pc = some 126) : decode c pc = .ok (.iand, 1) := dec_of ((run_bind Jvm.ClassFile.Reader.u1 _ (run_u1 h)).trans rfl) rfl
theorem dc_127 {c : ByteArray} {pc : Nat} (h : gb c pc = some 127) : decode c pc = .ok (.land, 1) := dec_of ((run_bind Jvm.ClassFile.Reader.u1 _ (run_u1 h)).trans rfl) rfl
theorem dc_128 {c : ByteArray} {pc : Nat} (h : gb c pc = some 128) : decode c pc = .ok (.ior, 1) := dec_of ((run_bind Jvm.ClassFile.Reader.u1 _ (run_u1 h)).trans rfl) rfl
theorem dc_129 {c : ByteArray} {pc : Nat} (h : gb c pc = some 129) : decode c pc = .ok (.lor, 1) := dec_of ((run_bind Jvm.ClassFile.Reader.u1 _ (run_u1 h)).trans rfl) rfl
theorem dc_130 {c : ByteArray} {pc : Nat} (h : gb c pc = some 130) : decode c pc = .ok (.ixor, 1) := dec_of ((run_bind Jvm.ClassFile.Reader.u1 _ (run_u1 h)).trans rfl) rfl
theorem dc_131 {c : ByteArray} {pc : Nat} (h : gb c pc = some 131) : decode c pc = .ok (.lxor, 1) := dec_of ((run_bind Jvm.ClassFile.Reader.u1 _ (run_u1 h)).trans rfl) rfl
theorem dc_133 {c : ByteArray} {pc : Nat} (h : gb c pc = some 133) : decode c pc = .ok (.i2l, 1) := dec_of ((run_bind Jvm.ClassFile.Reader.u1 _ (run_u1 h)).trans rfl) rfl
theorem dc_136 {c : ByteArray} {pc : Nat} (h : gb c pc = some 136) : decode c pc = .ok (.l2i, 1) := dec_of ((run_bind Jvm.ClassFile.Reader.u1 _ (run_u1 h)).trans rfl) rfl
theorem dc_145 {c : ByteArray} {pc : Nat} (h : gb c pc = some 145) : decode c pc = .ok (.i2b, 1) := dec_of ((run_bind Jvm.ClassFile.Reader.u1 _ (run_u1 h)).trans rfl) rfl
theorem dc_148 {c : ByteArray} {pc : Nat} (h : gb c pc = some 148) : decode c pc = .ok (.lcmp, 1) := dec_of ((run_bind Jvm.ClassFile.Reader.u1 _ (run_u1 h)).trans rfl) rfl
theorem dc_172 {c : ByteArray} {pc : Nat} (h : gb c pc = some 172) : decode c pc = .ok (.ireturn, 1) := dec_of ((run_bind Jvm.ClassFile.Reader.u1 _ (run_u1 h)).trans rfl) rfl
theorem dc_173 {c : ByteArray} {pc : Nat} (h : gb c pc = some 173) : decode c pc = .ok (.lreturn, 1) := dec_of ((run_bind Jvm.ClassFile.Reader.u1 _ (run_u1 h)).trans rfl) rfl
theorem dc_176 {c : ByteArray} {pc : Nat} (h : gb c pc = some 176) : decode c pc = .ok (.areturn, 1) := dec_of ((run_bind Jvm.ClassFile.Reader.u1 _ (run_u1 h)).trans rfl) rfl
theorem dc_177 {c : ByteArray} {pc : Nat} (h : gb c pc = some 177) : decode c pc = .ok (.return_, 1) := dec_of ((run_bind Jvm.ClassFile.Reader.u1 _ (run_u1 h)).trans rfl) rfl
theorem dc_190 {c : ByteArray} {pc : Nat} (h : gb c pc = some 190) : decode c pc = .ok (.arraylength, 1) := dec_of ((run_bind Jvm.ClassFile.Reader.u1 _ (run_u1 h)).trans rfl) rfl
theorem dc_191 {c : ByteArray} {pc : Nat} (h : gb c pc = some 191) : decode c pc = .ok (.athrow, 1) := dec_of ((run_bind Jvm.ClassFile.Reader.u1 _ (run_u1 h)).trans rfl) rfl
theorem dc_18 {c : ByteArray} {pc : Nat} {x : Nat} (h : gb c pc = some 18 ∧ gb c (pc + 1) = some x) : decode c pc = .ok (.ldc x, 2) := dec_of ((run_bind Jvm.ClassFile.Reader.u1 _ (run_u1 h.1)).trans ((run_bind Jvm.ClassFile.Reader.u1 _ (run_u1 h.2)).trans rfl)) rfl
theorem dc_21 {c : ByteArray} {pc : Nat} {x : Nat} (h : gb c pc = some 21 ∧ gb c (pc + 1) = some x) : decode c pc = .ok (.iload x, 2) := dec_of ((run_bind Jvm.ClassFile.Reader.u1 _ (run_u1 h.1)).trans ((run_bind Jvm.ClassFile.Reader.u1 _ (run_u1 h.2)).trans rfl)) rfl
theorem dc_22 {c : ByteArray} {pc : Nat} {x : Nat} (h : gb c pc = some 22 ∧ gb c (pc + 1) = some x) : decode c pc = .ok (.lload x, 2) := dec_of ((run_bind Jvm.ClassFile.Reader.u1 _ (run_u1 h.1)).trans ((run_bind Jvm.ClassFile.Reader.u1 _ (run_u1 h.2)).trans rfl)) rfl
theorem dc_25 {c : ByteArray} {pc : Nat} {x : Nat} (h : gb c pc = some 25 ∧ gb c (pc + 1) = some x) : decode c pc = .ok (.aload x, 2) := dec_of ((run_bind Jvm.ClassFile.Reader.u1 _ (run_u1 h.1)).trans ((run_bind Jvm.ClassFile.Reader.u1 _ (run_u1 h.2)).trans rfl)) rfl
theorem dc_54 {c : ByteArray} {pc : Nat} {x : Nat} (h : gb c pc = some 54 ∧ gb c (pc + 1) = some x) : decode c pc = .ok (.istore x, 2) := dec_of ((run_bind Jvm.ClassFile.Reader.u1 _ (run_u1 h.1)).trans ((run_bind Jvm.ClassFile.Reader.u1 _ (run_u1 h.2)).trans rfl)) rfl
theorem dc_55 {c : ByteArray} {pc : Nat} {x : Nat} (h : gb c pc = some 55 ∧ gb c (pc + 1) = some x) : decode c pc = .ok (.lstore x, 2) := dec_of ((run_bind Jvm.ClassFile.Reader.u1 _ (run_u1 h.1)).trans ((run_bind Jvm.ClassFile.Reader.u1 _ (run_u1 h.2)).trans rfl)) rfl
theorem dc_58 {c : ByteArray} {pc : Nat} {x : Nat} (h : gb c pc = some 58 ∧ gb c (pc + 1) = some x) : decode c pc = .ok (.astore x, 2) := dec_of ((run_bind Jvm.ClassFile.Reader.u1 _ (run_u1 h.1)).trans ((run_bind Jvm.ClassFile.Reader.u1 _ (run_u1 h.2)).trans rfl)) rfl
theorem dc_16 {c : ByteArray} {pc : Nat} {x : Nat} (h : gb c pc = some 16 ∧ gb c (pc + 1) = some x) : decode c pc = .ok (.bipush (sg8 x), 2) := dec_of ((run_bind Jvm.ClassFile.Reader.u1 _ (run_u1 h.1)).trans ((run_bind Jvm.ClassFile.Reader.s1 _ (run_s1 h.2)).trans rfl)) rfl
theorem dc_132 {c : ByteArray} {pc : Nat} {x y : Nat} (h : gb c pc = some 132 ∧ gb c (pc + 1) = some x ∧ gb c (pc + 2) = some y) : decode c pc = .ok (.iinc x (sg8 y), 3) := dec_of ((run_bind Jvm.ClassFile.Reader.u1 _ (run_u1 h.1)).trans ((run_bind Jvm.ClassFile.Reader.u1 _ (run_u1 h.2.1)).trans ((run_bind Jvm.ClassFile.Reader.s1 _ (run_s1 h.2.2)).trans rfl))) rfl
theorem dc_19 {c : ByteArray} {pc : Nat} {x y : Nat} (h : gb c pc = some 19 ∧ gb c (pc + 1) = some x ∧ gb c (pc + 2) = some y) : decode c pc = .ok (.ldc_w (x * 256 + y), 3) := dec_of ((run_bind Jvm.ClassFile.Reader.u1 _ (run_u1 h.1)).trans ((run_bind Jvm.ClassFile.Reader.u2 _ (run_u2 h.2.1 h.2.2)).trans rfl)) rfl
theorem dc_20 {c : ByteArray} {pc : Nat} {x y : Nat} (h : gb c pc = some 20 ∧ gb c (pc + 1) = some x ∧ gb c (pc + 2) = some y) : decode c pc = .ok (.ldc2_w (x * 256 + y), 3) := dec_of ((run_bind Jvm.ClassFile.Reader.u1 _ (run_u1 h.1)).trans ((run_bind Jvm.ClassFile.Reader.u2 _ (run_u2 h.2.1 h.2.2)).trans rfl)) rfl
theorem dc_178 {c : ByteArray} {pc : Nat} {x y : Nat} (h : gb c pc = some 178 ∧ gb c (pc + 1) = some x ∧ gb c (pc + 2) = some y) : decode c pc = .ok (.getstatic (x * 256 + y), 3) := dec_of ((run_bind Jvm.ClassFile.Reader.u1 _ (run_u1 h.1)).trans ((run_bind Jvm.ClassFile.Reader.u2 _ (run_u2 h.2.1 h.2.2)).trans rfl)) rfl
theorem dc_180 {c : ByteArray} {pc : Nat} {x y : Nat} (h : gb c pc = some 180 ∧ gb c (pc + 1) = some x ∧ gb c (pc + 2) = some y) : decode c pc = .ok (.getfield (x * 256 + y), 3) := dec_of ((run_bind Jvm.ClassFile.Reader.u1 _ (run_u1 h.1)).trans ((run_bind Jvm.ClassFile.Reader.u2 _ (run_u2 h.2.1 h.2.2)).trans rfl)) rfl
theorem dc_181 {c : ByteArray} {pc : Nat} {x y : Nat} (h : gb c pc = some 181 ∧ gb c (pc + 1) = some x ∧ gb c (pc + 2) = some y) : decode c pc = .ok (.putfield (x * 256 + y), 3) := dec_of ((run_bind Jvm.ClassFile.Reader.u1 _ (run_u1 h.1)).trans ((run_bind Jvm.ClassFile.Reader.u2 _ (run_u2 h.2.1 h.2.2)).trans rfl)) rfl
theorem dc_182 {c : ByteArray} {pc : Nat} {x y : Nat} (h : gb c pc = some 182 ∧ gb c (pc + 1) = some x ∧ gb c (pc + 2) = some y) : decode c pc = .ok (.invokevirtual (x * 256 + y), 3) := dec_of ((run_bind Jvm.ClassFile.Reader.u1 _ (run_u1 h.1)).trans ((run_bind Jvm.ClassFile.Reader.u2 _ (run_u2 h.2.1 h.2.2)).trans rfl)) rfl
theorem dc_183 {c : ByteArray} {pc : Nat} {x y : Nat} (h : gb c pc = some 183 ∧ gb c (pc + 1) = some x ∧ gb c (pc + 2) = some y) : decode c pc = .ok (.invokespecial (x * 256 + y), 3) := dec_of ((run_bind Jvm.ClassFile.Reader.u1 _ (run_u1 h.1)).trans ((run_bind Jvm.ClassFile.Reader.u2 _ (run_u2 h.2.1 h.2.2)).trans rfl)) rfl
theorem dc_184 {c : ByteArray} {pc : Nat} {x y : Nat} (h : gb c pc = some 184 ∧ gb c (pc + 1) = some x ∧ gb c (pc + 2) = some y) : decode c pc = .ok (.invokestatic (x * 256 + y), 3) := dec_of ((run_bind Jvm.ClassFile.Reader.u1 _ (run_u1 h.1)).trans ((run_bind Jvm.ClassFile.Reader.u2 _ (run_u2 h.2.1 h.2.2)).trans rfl)) rfl
theorem dc_187 {c : ByteArray} {pc : Nat} {x y : Nat} (h : gb c pc = some 187 ∧ gb c (pc + 1) = some x ∧ gb c (pc + 2) = some y) : decode c pc = .ok (.new (x * 256 + y), 3) := dec_of ((run_bind Jvm.ClassFile.Reader.u1 _ (run_u1 h.1)).trans ((run_bind Jvm.ClassFile.Reader.u2 _ (run_u2 h.2.1 h.2.2)).trans rfl)) rfl
theorem dc_189 {c : ByteArray} {pc : Nat} {x y : Nat} (h : gb c pc = some 189 ∧ gb c (pc + 1) = some x ∧ gb c (pc + 2) = some y) : decode c pc = .ok (.anewarray (x * 256 + y), 3) := dec_of ((run_bind Jvm.ClassFile.Reader.u1 _ (run_u1 h.1)).trans ((run_bind Jvm.ClassFile.Reader.u2 _ (run_u2 h.2.1 h.2.2)).trans rfl)) rfl
theorem dc_17 {c : ByteArray} {pc : Nat} {x y : Nat} (h : gb c pc = some 17 ∧ gb c (pc + 1) = some x ∧ gb c (pc + 2) = some y) : decode c pc = .ok (.sipush (sg16 (x * 256 + y)), 3) := dec_of ((run_bind Jvm.ClassFile.Reader.u1 _ (run_u1 h.1)).trans ((run_bind Jvm.ClassFile.Reader.s2 _ (run_s2 h.2.1 h.2.2)).trans rfl)) rfl
theorem dc_167 {c : ByteArray} {pc : Nat} {x y : Nat} (h : gb c pc = some 167 ∧ gb c (pc + 1) = some x ∧ gb c (pc + 2) = some y) : decode c pc = .ok (.goto (sg16 (x * 256 + y)), 3) := dec_of ((run_bind Jvm.ClassFile.Reader.u1 _ (run_u1 h.1)).trans ((run_bind Jvm.ClassFile.Reader.s2 _ (run_s2 h.2.1 h.2.2)).trans rfl)) rfl
theorem dc_198 {c : ByteArray} {pc : Nat} {x y : Nat} (h : gb c pc = some 198 ∧ gb c (pc + 1) = some x ∧ gb c (pc + 2) = some y) : decode c pc = .ok (.ifnull (sg16 (x * 256 + y)), 3) := dec_of ((run_bind Jvm.ClassFile.Reader.u1 _ (run_u1 h.1)).trans ((run_bind Jvm.ClassFile.Reader.s2 _ (run_s2 h.2.1 h.2.2)).trans rfl)) rfl
theorem dc_199 {c : ByteArray} {pc : Nat} {x y : Nat} (h : gb c pc = some 199 ∧ gb c (pc + 1) = some x ∧ gb c (pc + 2) = some y) : decode c pc = .ok (.ifnonnull (sg16 (x * 256 + y)), 3) := dec_of ((run_bind Jvm.ClassFile.Reader.u1 _ (run_u1 h.1)).trans ((run_bind Jvm.ClassFile.Reader.s2 _ (run_s2 h.2.1 h.2.2)).trans rfl)) rfl
theorem dc_153 {c : ByteArray} {pc : Nat} {x y : Nat} (h : gb c pc = some 153 ∧ gb c (pc + 1) = some x ∧ gb c (pc + 2) = some y) : decode c pc = .ok (.ifCond .eq (sg16 (x * 256 + y)), 3) := dec_of ((run_bind Jvm.ClassFile.Reader.u1 _ (run_u1 h.1)).trans ((run_bind Jvm.ClassFile.Reader.s2 _ (run_s2 h.2.1 h.2.2)).trans rfl)) rfl
theorem dc_159 {c : ByteArray} {pc : Nat} {x y : Nat} (h : gb c pc = some 159 ∧ gb c (pc + 1) = some x ∧ gb c (pc + 2) = some y) : decode c pc = .ok (.if_icmp .eq (sg16 (x * 256 + y)), 3) := dec_of ((run_bind Jvm.ClassFile.Reader.u1 _ (run_u1 h.1)).trans ((run_bind Jvm.ClassFile.Reader.s2 _ (run_s2 h.2.1 h.2.2)).trans rfl)) rfl
theorem dc_154 {c : ByteArray} {pc : Nat} {x y : Nat} (h : gb c pc = some 154 ∧ gb c (pc + 1) = some x ∧ gb c (pc + 2) = some y) : decode c pc = .ok (.ifCond .ne (sg16 (x * 256 + y)), 3) := dec_of ((run_bind Jvm.ClassFile.Reader.u1 _ (run_u1 h.1)).trans ((run_bind Jvm.ClassFile.Reader.s2 _ (run_s2 h.2.1 h.2.2)).trans rfl)) rfl
theorem dc_160 {c : ByteArray} {pc : Nat} {x y : Nat} (h : gb c pc = some 160 ∧ gb c (pc + 1) = some x ∧ gb c (pc + 2) = some y) : decode c pc = .ok (.if_icmp .ne (sg16 (x * 256 + y)), 3) := dec_of ((run_bind Jvm.ClassFile.Reader.u1 _ (run_u1 h.1)).trans ((run_bind Jvm.ClassFile.Reader.s2 _ (run_s2 h.2.1 h.2.2)).trans rfl)) rfl
theorem dc_155 {c : ByteArray} {pc : Nat} {x y : Nat} (h : gb c pc = some 155 ∧ gb c (pc + 1) = some x ∧ gb c (pc + 2) = some y) : decode c pc = .ok (.ifCond .lt (sg16 (x * 256 + y)), 3) := dec_of ((run_bind Jvm.ClassFile.Reader.u1 _ (run_u1 h.1)).trans ((run_bind Jvm.ClassFile.Reader.s2 _ (run_s2 h.2.1 h.2.2)).trans rfl)) rfl
theorem dc_161 {c : ByteArray} {pc : Nat} {x y : Nat} (h : gb c pc = some 161 ∧ gb c (pc + 1) = some x ∧ gb c (pc + 2) = some y) : decode c pc = .ok (.if_icmp .lt (sg16 (x * 256 + y)), 3) := dec_of ((run_bind Jvm.ClassFile.Reader.u1 _ (run_u1 h.1)).trans ((run_bind Jvm.ClassFile.Reader.s2 _ (run_s2 h.2.1 h.2.2)).trans rfl)) rfl
theorem dc_156 {c : ByteArray} {pc : Nat} {x y : Nat} (h : gb c pc = some 156 ∧ gb c (pc + 1) = some x ∧ gb c (pc + 2) = some y) : decode c pc = .ok (.ifCond .ge (sg16 (x * 256 + y)), 3) := dec_of ((run_bind Jvm.ClassFile.Reader.u1 _ (run_u1 h.1)).trans ((run_bind Jvm.ClassFile.Reader.s2 _ (run_s2 h.2.1 h.2.2)).trans rfl)) rfl
theorem dc_162 {c : ByteArray} {pc : Nat} {x y : Nat} (h : gb c pc = some 162 ∧ gb c (pc + 1) = some x ∧ gb c (pc + 2) = some y) : decode c pc = .ok (.if_icmp .ge (sg16 (x * 256 + y)), 3) := dec_of ((run_bind Jvm.ClassFile.Reader.u1 _ (run_u1 h.1)).trans ((run_bind Jvm.ClassFile.Reader.s2 _ (run_s2 h.2.1 h.2.2)).trans rfl)) rfl
theorem dc_157 {c : ByteArray} {pc : Nat} {x y : Nat} (h : gb c pc = some 157 ∧ gb c (pc + 1) = some x ∧ gb c (pc + 2) = some y) : decode c pc = .ok (.ifCond .gt (sg16 (x * 256 + y)), 3) := dec_of ((run_bind Jvm.ClassFile.Reader.u1 _ (run_u1 h.1)).trans ((run_bind Jvm.ClassFile.Reader.s2 _ (run_s2 h.2.1 h.2.2)).trans rfl)) rfl
theorem dc_163 {c : ByteArray} {pc : Nat} {x y : Nat} (h : gb c pc = some 163 ∧ gb c (pc + 1) = some x ∧ gb c (pc + 2) = some y) : decode c pc = .ok (.if_icmp .gt (sg16 (x * 256 + y)), 3) := dec_of ((run_bind Jvm.ClassFile.Reader.u1 _ (run_u1 h.1)).trans ((run_bind Jvm.ClassFile.Reader.s2 _ (run_s2 h.2.1 h.2.2)).trans rfl)) rfl
theorem dc_158 {c : ByteArray} {pc : Nat} {x y : Nat} (h : gb c pc = some 158 ∧ gb c (pc + 1) = some x ∧ gb c (pc + 2) = some y) : decode c pc = .ok (.ifCond .le (sg16 (x * 256 + y)), 3) := dec_of ((run_bind Jvm.ClassFile.Reader.u1 _ (run_u1 h.1)).trans ((run_bind Jvm.ClassFile.Reader.s2 _ (run_s2 h.2.1 h.2.2)).trans rfl)) rfl
theorem dc_164 {c : ByteArray} {pc : Nat} {x y : Nat} (h : gb c pc = some 164 ∧ gb c (pc + 1) = some x ∧ gb c (pc + 2) = some y) : decode c pc = .ok (.if_icmp .le (sg16 (x * 256 + y)), 3) := dec_of ((run_bind Jvm.ClassFile.Reader.u1 _ (run_u1 h.1)).trans ((run_bind Jvm.ClassFile.Reader.s2 _ (run_s2 h.2.1 h.2.2)).trans rfl)) rfl
theorem dc_165 {c : ByteArray} {pc : Nat} {x y : Nat} (h : gb c pc = some 165 ∧ gb c (pc + 1) = some x ∧ gb c (pc + 2) = some y) : decode c pc = .ok (.if_acmp .eq (sg16 (x * 256 + y)), 3) := dec_of ((run_bind Jvm.ClassFile.Reader.u1 _ (run_u1 h.1)).trans ((run_bind Jvm.ClassFile.Reader.s2 _ (run_s2 h.2.1 h.2.2)).trans rfl)) rfl
theorem dc_166 {c : ByteArray} {pc : Nat} {x y : Nat} (h : gb c pc = some 166 ∧ gb c (pc + 1) = some x ∧ gb c (pc + 2) = some y) : decode c pc = .ok (.if_acmp .ne (sg16 (x * 256 + y)), 3) := dec_of ((run_bind Jvm.ClassFile.Reader.u1 _ (run_u1 h.1)).trans ((run_bind Jvm.ClassFile.Reader.s2 _ (run_s2 h.2.1 h.2.2)).trans rfl)) rfl
theorem dc_188_4 {c : ByteArray} {pc : Nat} (h : gb c pc = some 188 ∧ gb c (pc + 1) = some 4) : decode c pc = .ok (.newarray .boolean, 2) := dec_of ((run_bind Jvm.ClassFile.Reader.u1 _ (run_u1 h.1)).trans ((run_bind Jvm.ClassFile.Reader.u1 _ (run_u1 h.2)).trans rfl)) rfl
theorem dc_188_8 {c : ByteArray} {pc : Nat} (h : gb c pc = some 188 ∧ gb c (pc + 1) = some 8) : decode c pc = .ok (.newarray .byte, 2) := dec_of ((run_bind Jvm.ClassFile.Reader.u1 _ (run_u1 h.1)).trans ((run_bind Jvm.ClassFile.Reader.u1 _ (run_u1 h.2)).trans rfl)) rfl
theorem dc_188_10 {c : ByteArray} {pc : Nat} (h : gb c pc = some 188 ∧ gb c (pc + 1) = some 10) : decode c pc = .ok (.newarray .int, 2) := dec_of ((run_bind Jvm.ClassFile.Reader.u1 _ (run_u1 h.1)).trans ((run_bind Jvm.ClassFile.Reader.u1 _ (run_u1 h.2)).trans rfl)) rfl
theorem dc_188_11 {c : ByteArray} {pc : Nat} (h : gb c pc = some 188 ∧ gb c (pc + 1) = some 11) : decode c pc = .ok (.newarray .long, 2) := dec_of ((run_bind Jvm.ClassFile.Reader.u1 _ (run_u1 h.1)).trans ((run_bind Jvm.ClassFile.Reader.u1 _ (run_u1 h.2)).trans rfl)) rfl
theorem v_iadd {E : Et} {X : Xt} (o : OK E X) {K : Outcome → AH → Prop} {pc : Nat} {L r : List Value} {h : AH} {x y : Int32} (hd : decode E.cc pc = .ok (.iadd, 1)) (H : V X K (pc + 1) L (.int (x + y) :: r) h) : V X K pc L (.int y :: .int x :: r) h := Snd.run (s_iadd hd) o H
theorem v_isub {E : Et} {X : Xt} (o : OK E X) {K : Outcome → AH → Prop} {pc : Nat} {L r : List Value} {h : AH} {x y : Int32} (hd : decode E.cc pc = .ok (.isub, 1)) (H : V X K (pc + 1) L (.int (x - y) :: r) h) : V X K pc L (.int y :: .int x :: r) h := Snd.run (s_isub hd) o H
theorem v_imul {E : Et} {X : Xt} (o : OK E X) {K : Outcome → AH → Prop} {pc : Nat} {L r : List Value} {h : AH} {x y : Int32} (hd : decode E.cc pc = .ok (.imul, 1)) (H : V X K (pc + 1) L (.int (x * y) :: r) h) : V X K pc L (.int y :: .int x :: r) h := Snd.run (s_imul hd) o H
theorem v_iand {E : Et} {X : Xt} (o : OK E X) {K : Outcome → AH → Prop} {pc : Nat} {L r : List Value} {h : AH} {x y : Int32} (hd : decode E.cc pc = .ok (.iand, 1)) (H : V X K (pc + 1) L (.int (x &&& y) :: r) h) : V X K pc L (.int y :: .int x :: r) h := Snd.run (s_iand hd) o H
theorem v_ior {E : Et} {X : Xt} (o : OK E X) {K : Outcome → AH → Prop} {pc : Nat} {L r : List Value} {h : AH} {x y : Int32} (hd : decode E.cc pc = .ok (.ior, 1)) (H : V X K (pc + 1) L (.int (x ||| y) :: r) h) : V X K pc L (.int y :: .int x :: r) h := Snd.run (s_ior hd) o H
theorem v_ixor {E : Et} {X : Xt} (o : OK E X) {K : Outcome → AH → Prop} {pc : Nat} {L r : List Value} {h : AH} {x y : Int32} (hd : decode E.cc pc = .ok (.ixor, 1)) (H : V X K (pc + 1) L (.int (x ^^^ y) :: r) h) : V X K pc L (.int y :: .int x :: r) h := Snd.run (s_ixor hd) o H
theorem v_ishl {E : Et} {X : Xt} (o : OK E X) {K : Outcome → AH → Prop} {pc : Nat} {L r : List Value} {h : AH} {x y : Int32} (hd : decode E.cc pc = .ok (.ishl, 1)) (H : V X K (pc + 1) L (.int (x <<< (y &&& 31)) :: r) h) : V X K pc L (.int y :: .int x :: r) h := Snd.run (s_ishl hd) o H
theorem v_ishr {E : Et} {X : Xt} (o : OK E X) {K : Outcome → AH → Prop} {pc : Nat} {L r : List Value} {h : AH} {x y : Int32} (hd : decode E.cc pc = .ok (.ishr, 1)) (H : V X K (pc + 1) L (.int (x >>> (y &&& 31)) :: r) h) : V X K pc L (.int y :: .int x :: r) h := Snd.run (s_ishr hd) o H
theorem v_iushr {E : Et} {X : Xt} (o : OK E X) {K : Outcome → AH → Prop} {pc : Nat} {L r : List Value} {h : AH} {x y : Int32} (hd : decode E.cc pc = .ok (.iushr, 1)) (H : V X K (pc + 1) L (.int ((x.toUInt32 >>> (y.toUInt32 &&& Int32.toUInt32 31)).toInt32) :: r) h) : V X K pc L (.int y :: .int x :: r) h := Snd.run (s_iushr hd) o H
theorem v_idiv {E : Et} {X : Xt} (o : OK E X) {K : Outcome → AH → Prop} {pc : Nat} {L r : List Value} {h : AH} {x y : Int32} (hd : decode E.cc pc = .ok (.idiv, 1)) (hn : ¬ y = 0) (H : V X K (pc + 1) L (.int (x / y) :: r) h) : V X K pc L (.int y :: .int x :: r) h := Snd.run (s_idiv hd) o ⟨hn, H⟩
theorem v_irem {E : Et} {X : Xt} (o : OK E X) {K : Outcome → AH → Prop} {pc : Nat} {L r : List Value} {h : AH} {x y : Int32} (hd : decode E.cc pc = .ok (.irem, 1)) (hn : ¬ y = 0) (H : V X K (pc + 1) L (.int (x - x / y * y) :: r) h) : V X K pc L (.int y :: .int x :: r) h := Snd.run (s_irem hd) o ⟨hn, H⟩
theorem v_ladd {E : Et} {X : Xt} (o : OK E X) {K : Outcome → AH → Prop} {pc : Nat} {L r : List Value} {h : AH} {x y : Int64} (hd : decode E.cc pc = .ok (.ladd, 1)) (H : V X K (pc + 1) L (.long (x + y) :: r) h) : V X K pc L (.long y :: .long x :: r) h := Snd.run (s_ladd hd) o H
theorem v_lsub {E : Et} {X : Xt} (o : OK E X) {K : Outcome → AH → Prop} {pc : Nat} {L r : List Value} {h : AH} {x y : Int64} (hd : decode E.cc pc = .ok (.lsub, 1)) (H : V X K (pc + 1) L (.long (x - y) :: r) h) : V X K pc L (.long y :: .long x :: r) h := Snd.run (s_lsub hd) o H
theorem v_lmul {E : Et} {X : Xt} (o : OK E X) {K : Outcome → AH → Prop} {pc : Nat} {L r : List Value} {h : AH} {x y : Int64} (hd : decode E.cc pc = .ok (.lmul, 1)) (H : V X K (pc + 1) L (.long (x * y) :: r) h) : V X K pc L (.long y :: .long x :: r) h := Snd.run (s_lmul hd) o H
theorem v_land {E : Et} {X : Xt} (o : OK E X) {K : Outcome → AH → Prop} {pc : Nat} {L r : List Value} {h : AH} {x y : Int64} (hd : decode E.cc pc = .ok (.land, 1)) (H : V X K (pc + 1) L (.long (x &&& y) :: r) h) : V X K pc L (.long y :: .long x :: r) h := Snd.run (s_land hd) o H
theorem v_lor {E : Et} {X : Xt} (o : OK E X) {K : Outcome → AH → Prop} {pc : Nat} {L r : List Value} {h : AH} {x y : Int64} (hd : decode E.cc pc = .ok (.lor, 1)) (H : V X K (pc + 1) L (.long (x ||| y) :: r) h) : V X K pc L (.long y :: .long x :: r) h := Snd.run (s_lor hd) o H
theorem v_lxor {E : Et} {X : Xt} (o : OK E X) {K : Outcome → AH → Prop} {pc : Nat} {L r : List Value} {h : AH} {x y : Int64} (hd : decode E.cc pc = .ok (.lxor, 1)) (H : V X K (pc + 1) L (.long (x ^^^ y) :: r) h) : V X K pc L (.long y :: .long x :: r) h := Snd.run (s_lxor hd) o H
theorem v_lshl {E : Et} {X : Xt} (o : OK E X) {K : Outcome → AH → Prop} {pc : Nat} {L r : List Value} {h : AH} {x : Int64} {y : Int32} (hd : decode E.cc pc = .ok (.lshl, 1)) (H : V X K (pc + 1) L (.long (x <<< (y.toInt64 &&& 63)) :: r) h) : V X K pc L (.int y :: .long x :: r) h := Snd.run (s_lshl hd) o H
theorem v_lshr {E : Et} {X : Xt} (o : OK E X) {K : Outcome → AH → Prop} {pc : Nat} {L r : List Value} {h : AH} {x : Int64} {y : Int32} (hd : decode E.cc pc = .ok (.lshr, 1)) (H : V X K (pc + 1) L (.long (x >>> (y.toInt64 &&& 63)) :: r) h) : V X K pc L (.int y :: .long x :: r) h := Snd.run (s_lshr hd) o H
theorem v_lushr {E : Et} {X : Xt} (o : OK E X) {K : Outcome → AH → Prop} {pc : Nat} {L r : List Value} {h : AH} {x : Int64} {y : Int32} (hd : decode E.cc pc = .ok (.lushr, 1)) (H : V X K (pc + 1) L (.long ((x.toUInt64 >>> (y.toInt64.toUInt64 &&& Int64.toUInt64 63)).toInt64) :: r) h) : V X K pc L (.int y :: .long x :: r) h := Snd.run (s_lushr hd) o H
theorem v_lcmp {E : Et} {X : Xt} (o : OK E X) {K : Outcome → AH → Prop} {pc : Nat} {L r : List Value} {h : AH} {x y : Int64} (hd : decode E.cc pc = .ok (.lcmp, 1)) (H : V X K (pc + 1) L (.int (lg_cmp x y) :: r) h) : V X K pc L (.long y :: .long x :: r) h := Snd.run (s_lcmp hd) o H
theorem v_i2l {E : Et} {X : Xt} (o : OK E X) {K : Outcome → AH → Prop} {pc : Nat} {L r : List Value} {h : AH} {x : Int32} (hd : decode E.cc pc = .ok (.i2l, 1)) (H : V X K (pc + 1) L (.long x.toInt64 :: r) h) : V X K pc L (.int x :: r) h := Snd.run (s_i2l hd) o H
theorem v_l2i {E : Et} {X : Xt} (o : OK E X) {K : Outcome → AH → Prop} {pc : Nat} {L r : List Value} {h : AH} {x : Int64} (hd : decode E.cc pc = .ok (.l2i, 1)) (H : V X K (pc + 1) L (.int x.toInt32 :: r) h) : V X K pc L (.long x :: r) h := Snd.run (s_l2i hd) o H
theorem v_i2b {E : Et} {X : Xt} (o : OK E X) {K : Outcome → AH → Prop} {pc : Nat} {L r : List Value} {h : AH} {x : Int32} (hd : decode E.cc pc = .ok (.i2b, 1)) (H : V X K (pc + 1) L (.int x.toInt8.toInt32 :: r) h) : V X K pc L (.int x :: r) h := Snd.run (s_i2b hd) o H
theorem v_dup {E : Et} {X : Xt} (o : OK E X) {K : Outcome → AH → Prop} {pc : Nat} {L r : List Value} {h : AH} {v : Value} (hd : decode E.cc pc = .ok (.dup, 1)) (hc : v.category = 1) (H : V X K (pc + 1) L (v :: v :: r) h) : V X K pc L (v :: r) h := Snd.run (s_dup hd) o ⟨hc, H⟩
theorem v_pop {E : Et} {X : Xt} (o : OK E X) {K : Outcome → AH → Prop} {pc : Nat} {L r : List Value} {h : AH} {v : Value} (hd : decode E.cc pc = .ok (.pop, 1)) (hc : v.category = 1) (H : V X K (pc + 1) L (r) h) : V X K pc L (v :: r) h := Snd.run (s_pop hd) o ⟨hc, H⟩
theorem v_dup2 {E : Et} {X : Xt} (o : OK E X) {K : Outcome → AH → Prop} {pc : Nat} {L r : List Value} {h : AH} {v w : Value} (hd : decode E.cc pc = .ok (.dup2, 1)) (hc : v.category = 1) (hc2 : w.category = 1) (H : V X K (pc + 1) L (v :: w :: v :: w :: r) h) : V X K pc L (v :: w :: r) h := Snd.run (s_dup2 hd) o ⟨⟨hc, hc2⟩, H⟩
theorem v_iconst {E : Et} {X : Xt} (o : OK E X) {K : Outcome → AH → Prop} {pc : Nat} {L r : List Value} {h : AH} {n : Int} {x : Int32} (hd : decode E.cc pc = .ok (.iconst n, 1)) (hv : Int32.ofInt n = x) (H : V X K (pc + 1) L (.int x :: r) h) : V X K pc L (r) h := Snd.run (s_iconst hd hv) o H
theorem v_bipush {E : Et} {X : Xt} (o : OK E X) {K : Outcome → AH → Prop} {pc : Nat} {L r : List Value} {h : AH} {n : Int} {x : Int32} (hd : decode E.cc pc = .ok (.bipush n, 2)) (hv : (Int8.ofInt n).toInt32 = x) (H : V X K (pc + 2) L (.int x :: r) h) : V X K pc L (r) h := Snd.run (s_bipush hd hv) o H
theorem v_sipush {E : Et} {X : Xt} (o : OK E X) {K : Outcome → AH → Prop} {pc : Nat} {L r : List Value} {h : AH} {n : Int} {x : Int32} (hd : decode E.cc pc = .ok (.sipush n, 3)) (hv : (Int16.ofInt n).toInt32 = x) (H : V X K (pc + 3) L (.int x :: r) h) : V X K pc L (r) h := Snd.run (s_sipush hd hv) o H
theorem v_lconst {E : Et} {X : Xt} (o : OK E X) {K : Outcome → AH → Prop} {pc : Nat} {L r : List Value} {h : AH} {n : Fin 2} {x : Int64} (hd : decode E.cc pc = .ok (.lconst n, 1)) (hv : Int64.ofNat (n : Nat) = x) (H : V X K (pc + 1) L (.long x :: r) h) : V X K pc L (r) h := Snd.run (s_lconst hd hv) o H
theorem v_ldc {E : Et} {X : Xt} (o : OK E X) {K : Outcome → AH → Prop} {pc : Nat} {L r : List Value} {h : AH} {n : Nat} {x : Int32} (hd : decode E.cc pc = .ok (.ldc n, 2)) (hv : Cond.constant E.y.cls n x ∈ lw_all) (H : V X K (pc + 2) L (.int x :: r) h) : V X K pc L (r) h := Snd.run (s_ldc hd hv) o H
theorem v_ldcw {E : Et} {X : Xt} (o : OK E X) {K : Outcome → AH → Prop} {pc : Nat} {L r : List Value} {h : AH} {n : Nat} {x : Int32} (hd : decode E.cc pc = .ok (.ldc_w n, 3)) (hv : Cond.constant E.y.cls n x ∈ lw_all) (H : V X K (pc + 3) L (.int x :: r) h) : V X K pc L (r) h := Snd.run (s_ldcw hd hv) o H
theorem v_ldc2 {E : Et} {X : Xt} (o : OK E X) {K : Outcome → AH → Prop} {pc : Nat} {L r : List Value} {h : AH} {n : Nat} {x : Int64} (hd : decode E.cc pc = .ok (.ldc2_w n, 3)) (hv : Cond.constantLong E.y.cls n x ∈ lw_all) (H : V X K (pc + 3) L (.long x :: r) h) : V X K pc L (r) h := Snd.run (s_ldc2 hd hv) o H
theorem v_null {E : Et} {X : Xt} (o : OK E X) {K : Outcome → AH → Prop} {pc : Nat} {L r : List Value} {h : AH}  (hd : decode E.cc pc = .ok (.aconst_null, 1)) (H : V X K (pc + 1) L (.null :: r) h) : V X K pc L (r) h := Snd.run (s_null hd) o H
theorem v_il {E : Et} {X : Xt} (o : OK E X) {K : Outcome → AH → Prop} {pc : Nat} {L r : List Value} {h : AH} {i : Nat} {x : Int32} (hd : decode E.cc pc = .ok (.iload i, 2)) (hL : L[i]? = some (.int x)) (H : V X K (pc + 2) L (.int x :: r) h) : V X K pc L (r) h := Snd.run (s_il hd) o (by unfold w_il; rw [hL]; exact H)
theorem v_iln {E : Et} {X : Xt} (o : OK E X) {K : Outcome → AH → Prop} {pc : Nat} {L r : List Value} {h : AH} {i : Fin 4} {x : Int32} (hd : decode E.cc pc = .ok (.iload_n i, 1)) (hL : L[i.val]? = some (.int x)) (H : V X K (pc + 1) L (.int x :: r) h) : V X K pc L (r) h := Snd.run (s_iln hd rfl) o (by unfold w_il; rw [hL]; exact H)
theorem v_ll {E : Et} {X : Xt} (o : OK E X) {K : Outcome → AH → Prop} {pc : Nat} {L r : List Value} {h : AH} {i : Nat} {x : Int64} (hd : decode E.cc pc = .ok (.lload i, 2)) (hL : L[i]? = some (.long x)) (H : V X K (pc + 2) L (.long x :: r) h) : V X K pc L (r) h := Snd.run (s_ll hd) o (by unfold w_ll; rw [hL]; exact H)
theorem v_lln {E : Et} {X : Xt} (o : OK E X) {K : Outcome → AH → Prop} {pc : Nat} {L r : List Value} {h : AH} {i : Fin 4} {x : Int64} (hd : decode E.cc pc = .ok (.lload_n i, 1)) (hL : L[i.val]? = some (.long x)) (H : V X K (pc + 1) L (.long x :: r) h) : V X K pc L (r) h := Snd.run (s_lln hd rfl) o (by unfold w_ll; rw [hL]; exact H)
theorem v_al {E : Et} {X : Xt} (o : OK E X) {K : Outcome → AH → Prop} {pc : Nat} {L r : List Value} {h : AH} {i : Nat} {v : Value} (hd : decode E.cc pc = .ok (.aload i, 2)) (hL : L[i]? = some v) (hv : isR v = true) (H : V X K (pc + 2) L (v :: r) h) : V X K pc L (r) h := Snd.run (s_al hd) o (by unfold w_al; rw [hL]; exact ⟨hv, H⟩)
theorem v_aln {E : Et} {X : Xt} (o : OK E X) {K : Outcome → AH → Prop} {pc : Nat} {L r : List Value} {h : AH} {i : Fin 4} {v : Value} (hd : decode E.cc pc = .ok (.aload_n i, 1)) (hL : L[i.val]? = some v) (hv : isR v = true) (H : V X K (pc + 1) L (v :: r) h) : V X K pc L (r) h := Snd.run (s_aln hd rfl) o (by unfold w_al; rw [hL]; exact ⟨hv, H⟩)
theorem v_is {E : Et} {X : Xt} (o : OK E X) {K : Outcome → AH → Prop} {pc : Nat} {L r : List Value} {h : AH} {i : Nat} {x : Int32} {L2 : List Value} (hd : decode E.cc pc = .ok (.istore i, 2)) (hi : Nat.ble (i + 1) L.length = true) (hl : ls1 E.wd L i (.int x) = L2) (H : V X K (pc + 2) L2 (r) h) : V X K pc L (.int x :: r) h := Snd.run (s_is hd) o ⟨Nat.le_of_ble_eq_true hi, by rw [hl]; exact H⟩
theorem v_as {E : Et} {X : Xt} (o : OK E X) {K : Outcome → AH → Prop} {pc : Nat} {L r : List Value} {h : AH} {i : Nat} {v : Value} {L2 : List Value} (hd : decode E.cc pc = .ok (.astore i, 2)) (hi : Nat.ble (i + 1) L.length = true) (hv : isR v = true) (hl : ls1 E.wd L i v = L2) (H : V X K (pc + 2) L2 (r) h) : V X K pc L (v :: r) h := Snd.run (s_as hd) o ⟨⟨hv, Nat.le_of_ble_eq_true hi⟩, by rw [hl]; exact H⟩
theorem v_ls {E : Et} {X : Xt} (o : OK E X) {K : Outcome → AH → Prop} {pc : Nat} {L r : List Value} {h : AH} {i : Nat} {x : Int64} {L2 : List Value} (hd : decode E.cc pc = .ok (.lstore i, 2)) (hi : Nat.ble (i + 1 + 1) L.length = true) (hw : E.wd.contains i = true) (hl : ls2 E.wd L i (.long x) = L2) (H : V X K (pc + 2) L2 (r) h) : V X K pc L (.long x :: r) h := Snd.run (s_ls hd) o ⟨⟨Nat.le_of_ble_eq_true hi, hw⟩, by rw [hl]; exact H⟩
theorem v_isn {E : Et} {X : Xt} (o : OK E X) {K : Outcome → AH → Prop} {pc : Nat} {L r : List Value} {h : AH} {i : Fin 4} {x : Int32} {L2 : List Value} (hd : decode E.cc pc = .ok (.istore_n i, 1)) (hi : Nat.ble (i.val + 1) L.length = true) (hl : ls1 E.wd L i.val (.int x) = L2) (H : V X K (pc + 1) L2 (r) h) : V X K pc L (.int x :: r) h := Snd.run (s_isn hd rfl) o ⟨Nat.le_of_ble_eq_true hi, by rw [hl]; exact H⟩
theorem v_asn {E : Et} {X : Xt} (o : OK E X) {K : Outcome → AH → Prop} {pc : Nat} {L r : List Value} {h : AH} {i : Fin 4} {v : Value} {L2 : List Value} (hd : decode E.cc pc = .ok (.astore_n i, 1)) (hi : Nat.ble (i.val + 1) L.length = true) (hv : isR v = true) (hl : ls1 E.wd L i.val v = L2) (H : V X K (pc + 1) L2 (r) h) : V X K pc L (v :: r) h := Snd.run (s_asn hd rfl) o ⟨⟨hv, Nat.le_of_ble_eq_true hi⟩, by rw [hl]; exact H⟩
theorem v_lsn {E : Et} {X : Xt} (o : OK E X) {K : Outcome → AH → Prop} {pc : Nat} {L r : List Value} {h : AH} {i : Fin 4} {x : Int64} {L2 : List Value} (hd : decode E.cc pc = .ok (.lstore_n i, 1)) (hi : Nat.ble (i.val + 1 + 1) L.length = true) (hw : E.wd.contains i.val = true) (hl : ls2 E.wd L i.val (.long x) = L2) (H : V X K (pc + 1) L2 (r) h) : V X K pc L (.long x :: r) h := Snd.run (s_lsn hd rfl) o ⟨⟨Nat.le_of_ble_eq_true hi, hw⟩, by rw [hl]; exact H⟩
theorem v_inc {E : Et} {X : Xt} (o : OK E X) {K : Outcome → AH → Prop} {pc : Nat} {L r : List Value} {h : AH} {i : Nat} {n : Int} {x d : Int32} {L2 : List Value} (hd : decode E.cc pc = .ok (.iinc i n, 3)) (hv : Int32.ofInt n = d) (hL : L[i]? = some (.int x)) (hl : ls1 E.wd L i (.int (x + d)) = L2) (H : V X K (pc + 3) L2 (r) h) : V X K pc L (r) h := Snd.run (s_inc hd hv) o (by unfold w_inc; rw [hL]; show V X K (pc + 3) (ls1 E.wd L i (.int (x + d))) r h; rw [hl]; exact H)
theorem v_if_eq {E : Et} {X : Xt} (o : OK E X) {K : Outcome → AH → Prop} {pc t : Nat} {L r : List Value} {h : AH} {x : Int32} {off : Int} (hd : decode E.cc pc = .ok (.ifCond .eq off, 3)) (ht : (pc : Int) + off = (t : Int)) (H1 : x = 0 → V X K t L r h) (H2 : ¬ (x = 0) → V X K (pc + 3) L r h) : V X K pc L (.int x :: r) h := Snd.run (s_if_eq hd ht) o ⟨H1, H2⟩
theorem v_ic_eq {E : Et} {X : Xt} (o : OK E X) {K : Outcome → AH → Prop} {pc t : Nat} {L r : List Value} {h : AH} {x y : Int32} {off : Int} (hd : decode E.cc pc = .ok (.if_icmp .eq off, 3)) (ht : (pc : Int) + off = (t : Int)) (H1 : x = y → V X K t L r h) (H2 : ¬ (x = y) → V X K (pc + 3) L r h) : V X K pc L (.int y :: .int x :: r) h := Snd.run (s_ic_eq hd ht) o ⟨H1, H2⟩
theorem v_lc_eq {E : Et} {X : Xt} (o : OK E X) {K : Outcome → AH → Prop} {pc t : Nat} {L r : List Value} {h : AH} {x y : Int64} {off : Int} (hd : decode E.cc pc = .ok (.ifCond .eq off, 3)) (ht : (pc : Int) + off = (t : Int)) (H1 : x = y → V X K t L r h) (H2 : ¬ (x = y) → V X K (pc + 3) L r h) : V X K pc L (.int (lg_cmp x y) :: r) h := Snd.run (s_if_eq hd ht) o ⟨fun c => H1 (lgc_eq.mp c), fun c => H2 (fun e => c (lgc_eq.mpr e))⟩
theorem v_if_ne {E : Et} {X : Xt} (o : OK E X) {K : Outcome → AH → Prop} {pc t : Nat} {L r : List Value} {h : AH} {x : Int32} {off : Int} (hd : decode E.cc pc = .ok (.ifCond .ne off, 3)) (ht : (pc : Int) + off = (t : Int)) (H1 : ¬ x = 0 → V X K t L r h) (H2 : x = 0 → V X K (pc + 3) L r h) : V X K pc L (.int x :: r) h := Snd.run (s_if_ne hd ht) o ⟨H1, H2⟩
theorem v_ic_ne {E : Et} {X : Xt} (o : OK E X) {K : Outcome → AH → Prop} {pc t : Nat} {L r : List Value} {h : AH} {x y : Int32} {off : Int} (hd : decode E.cc pc = .ok (.if_icmp .ne off, 3)) (ht : (pc : Int) + off = (t : Int)) (H1 : ¬ x = y → V X K t L r h) (H2 : x = y → V X K (pc + 3) L r h) : V X K pc L (.int y :: .int x :: r) h := Snd.run (s_ic_ne hd ht) o ⟨H1, H2⟩
theorem v_lc_ne {E : Et} {X : Xt} (o : OK E X) {K : Outcome → AH → Prop} {pc t : Nat} {L r : List Value} {h : AH} {x y : Int64} {off : Int} (hd : decode E.cc pc = .ok (.ifCond .ne off, 3)) (ht : (pc : Int) + off = (t : Int)) (H1 : ¬ x = y → V X K t L r h) (H2 : x = y → V X K (pc + 3) L r h) : V X K pc L (.int (lg_cmp x y) :: r) h := Snd.run (s_if_ne hd ht) o ⟨fun c => H1 (fun e => c (lgc_eq.mpr e)), fun c => H2 (lgc_eq.mp c)⟩
theorem v_if_lt {E : Et} {X : Xt} (o : OK E X) {K : Outcome → AH → Prop} {pc t : Nat} {L r : List Value} {h : AH} {x : Int32} {off : Int} (hd : decode E.cc pc = .ok (.ifCond .lt off, 3)) (ht : (pc : Int) + off = (t : Int)) (H1 : x < 0 → V X K t L r h) (H2 : ¬ (x < 0) → V X K (pc + 3) L r h) : V X K pc L (.int x :: r) h := Snd.run (s_if_lt hd ht) o ⟨H1, H2⟩
theorem v_ic_lt {E : Et} {X : Xt} (o : OK E X) {K : Outcome → AH → Prop} {pc t : Nat} {L r : List Value} {h : AH} {x y : Int32} {off : Int} (hd : decode E.cc pc = .ok (.if_icmp .lt off, 3)) (ht : (pc : Int) + off = (t : Int)) (H1 : x < y → V X K t L r h) (H2 : ¬ (x < y) → V X K (pc + 3) L r h) : V X K pc L (.int y :: .int x :: r) h := Snd.run (s_ic_lt hd ht) o ⟨H1, H2⟩
theorem v_lc_lt {E : Et} {X : Xt} (o : OK E X) {K : Outcome → AH → Prop} {pc t : Nat} {L r : List Value} {h : AH} {x y : Int64} {off : Int} (hd : decode E.cc pc = .ok (.ifCond .lt off, 3)) (ht : (pc : Int) + off = (t : Int)) (H1 : x < y → V X K t L r h) (H2 : ¬ (x < y) → V X K (pc + 3) L r h) : V X K pc L (.int (lg_cmp x y) :: r) h := Snd.run (s_if_lt hd ht) o ⟨fun c => H1 (lgc_lt.mp c), fun c => H2 (fun e => c (lgc_lt.mpr e))⟩
theorem v_if_ge {E : Et} {X : Xt} (o : OK E X) {K : Outcome → AH → Prop} {pc t : Nat} {L r : List Value} {h : AH} {x : Int32} {off : Int} (hd : decode E.cc pc = .ok (.ifCond .ge off, 3)) (ht : (pc : Int) + off = (t : Int)) (H1 : 0 ≤ x → V X K t L r h) (H2 : ¬ (0 ≤ x) → V X K (pc + 3) L r h) : V X K pc L (.int x :: r) h := Snd.run (s_if_ge hd ht) o ⟨H1, H2⟩
theorem v_ic_ge {E : Et} {X : Xt} (o : OK E X) {K : Outcome → AH → Prop} {pc t : Nat} {L r : List Value} {h : AH} {x y : Int32} {off : Int} (hd : decode E.cc pc = .ok (.if_icmp .ge off, 3)) (ht : (pc : Int) + off = (t : Int)) (H1 : y ≤ x → V X K t L r h) (H2 : ¬ (y ≤ x) → V X K (pc + 3) L r h) : V X K pc L (.int y :: .int x :: r) h := Snd.run (s_ic_ge hd ht) o ⟨H1, H2⟩
theorem v_lc_ge {E : Et} {X : Xt} (o : OK E X) {K : Outcome → AH → Prop} {pc t : Nat} {L r : List Value} {h : AH} {x y : Int64} {off : Int} (hd : decode E.cc pc = .ok (.ifCond .ge off, 3)) (ht : (pc : Int) + off = (t : Int)) (H1 : y ≤ x → V X K t L r h) (H2 : ¬ (y ≤ x) → V X K (pc + 3) L r h) : V X K pc L (.int (lg_cmp x y) :: r) h := Snd.run (s_if_ge hd ht) o ⟨fun c => H1 (lgc_ge.mp c), fun c => H2 (fun e => c (lgc_ge.mpr e))⟩
theorem v_if_gt {E : Et} {X : Xt} (o : OK E X) {K : Outcome → AH → Prop} {pc t : Nat} {L r : List Value} {h : AH} {x : Int32} {off : Int} (hd : decode E.cc pc = .ok (.ifCond .gt off, 3)) (ht : (pc : Int) + off = (t : Int)) (H1 : 0 < x → V X K t L r h) (H2 : ¬ (0 < x) → V X K (pc + 3) L r h) : V X K pc L (.int x :: r) h := Snd.run (s_if_gt hd ht) o ⟨H1, H2⟩
theorem v_ic_gt {E : Et} {X : Xt} (o : OK E X) {K : Outcome → AH → Prop} {pc t : Nat} {L r : List Value} {h : AH} {x y : Int32} {off : Int} (hd : decode E.cc pc = .ok (.if_icmp .gt off, 3)) (ht : (pc : Int) + off = (t : Int)) (H1 : y < x → V X K t L r h) (H2 : ¬ (y < x) → V X K (pc + 3) L r h) : V X K pc L (.int y :: .int x :: r) h := Snd.run (s_ic_gt hd ht) o ⟨H1, H2⟩
theorem v_lc_gt {E : Et} {X : Xt} (o : OK E X) {K : Outcome → AH → Prop} {pc t : Nat} {L r : List Value} {h : AH} {x y : Int64} {off : Int} (hd : decode E.cc pc = .ok (.ifCond .gt off, 3)) (ht : (pc : Int) + off = (t : Int)) (H1 : y < x → V X K t L r h) (H2 : ¬ (y < x) → V X K (pc + 3) L r h) : V X K pc L (.int (lg_cmp x y) :: r) h := Snd.run (s_if_gt hd ht) o ⟨fun c => H1 (lgc_gt.mp c), fun c => H2 (fun e => c (lgc_gt.mpr e))⟩
theorem v_if_le {E : Et} {X : Xt} (o : OK E X) {K : Outcome → AH → Prop} {pc t : Nat} {L r : List Value} {h : AH} {x : Int32} {off : Int} (hd : decode E.cc pc = .ok (.ifCond .le off, 3)) (ht : (pc : Int) + off = (t : Int)) (H1 : x ≤ 0 → V X K t L r h) (H2 : ¬ (x ≤ 0) → V X K (pc + 3) L r h) : V X K pc L (.int x :: r) h := Snd.run (s_if_le hd ht) o ⟨H1, H2⟩
theorem v_ic_le {E : Et} {X : Xt} (o : OK E X) {K : Outcome → AH → Prop} {pc t : Nat} {L r : List Value} {h : AH} {x y : Int32} {off : Int} (hd : decode E.cc pc = .ok (.if_icmp .le off, 3)) (ht : (pc : Int) + off = (t : Int)) (H1 : x ≤ y → V X K t L r h) (H2 : ¬ (x ≤ y) → V X K (pc + 3) L r h) : V X K pc L (.int y :: .int x :: r) h := Snd.run (s_ic_le hd ht) o ⟨H1, H2⟩
theorem v_lc_le {E : Et} {X : Xt} (o : OK E X) {K : Outcome → AH → Prop} {pc t : Nat} {L r : List Value} {h : AH} {x y : Int64} {off : Int} (hd : decode E.cc pc = .ok (.ifCond .le off, 3)) (ht : (pc : Int) + off = (t : Int)) (H1 : x ≤ y → V X K t L r h) (H2 : ¬ (x ≤ y) → V X K (pc + 3) L r h) : V X K pc L (.int (lg_cmp x y) :: r) h := Snd.run (s_if_le hd ht) o ⟨fun c => H1 (lgc_le.mp c), fun c => H2 (fun e => c (lgc_le.mpr e))⟩
theorem v_go {E : Et} {X : Xt} (o : OK E X) {K : Outcome → AH → Prop} {pc t : Nat} {L r : List Value} {h : AH} {off : Int} (hd : decode E.cc pc = .ok (.goto off, 3)) (ht : (pc : Int) + off = (t : Int)) (H : V X K t L r h) : V X K pc L r h := Snd.run (b := 0) (s_go hd ht) o H
theorem v_ifnull {E : Et} {X : Xt} (o : OK E X) {K : Outcome → AH → Prop} {pc t : Nat} {L r : List Value} {h : AH} {p : Option Nat} {off : Int} (hd : decode E.cc pc = .ok (.ifnull off, 3)) (ht : (pc : Int) + off = (t : Int)) (H1 : p = none → V X K t L r h) (H2 : ∀ a, p = some a → V X K (pc + 3) L r h) : V X K pc L (va_rf p :: r) h := Snd.run (s_ifnull hd ht) o ⟨isR_rf p, fun e => H1 ((rfo_rf p).symm.trans e), fun a e => H2 a ((rfo_rf p).symm.trans e)⟩
theorem v_ifnullr {E : Et} {X : Xt} (o : OK E X) {K : Outcome → AH → Prop} {pc t : Nat} {L r : List Value} {h : AH} {a : Nat} {off : Int} (hd : decode E.cc pc = .ok (.ifnull off, 3)) (ht : (pc : Int) + off = (t : Int)) (H : V X K (pc + 3) L r h) : V X K pc L (.ref a :: r) h := v_ifnull o (p := some a) hd ht (fun e => nomatch e) (fun _ _ => H)
theorem v_ifnn {E : Et} {X : Xt} (o : OK E X) {K : Outcome → AH → Prop} {pc t : Nat} {L r : List Value} {h : AH} {p : Option Nat} {off : Int} (hd : decode E.cc pc = .ok (.ifnonnull off, 3)) (ht : (pc : Int) + off = (t : Int)) (H1 : p = none → V X K (pc + 3) L r h) (H2 : ∀ a, p = some a → V X K t L r h) : V X K pc L (va_rf p :: r) h := Snd.run (s_ifnn hd ht) o ⟨isR_rf p, fun e => H1 ((rfo_rf p).symm.trans e), fun a e => H2 a ((rfo_rf p).symm.trans e)⟩
theorem v_ifnnr {E : Et} {X : Xt} (o : OK E X) {K : Outcome → AH → Prop} {pc t : Nat} {L r : List Value} {h : AH} {a : Nat} {off : Int} (hd : decode E.cc pc = .ok (.ifnonnull off, 3)) (ht : (pc : Int) + off = (t : Int)) (H : V X K t L r h) : V X K pc L (.ref a :: r) h := v_ifnn o (p := some a) hd ht (fun e => nomatch e) (fun _ _ => H)
theorem v_acne {E : Et} {X : Xt} (o : OK E X) {K : Outcome → AH → Prop} {pc t : Nat} {L r : List Value} {h : AH} {v w : Value} {p q : Option Nat} {off : Int} (hd : decode E.cc pc = .ok (.if_acmp .ne off, 3)) (ht : (pc : Int) + off = (t : Int)) (hv : isR v = true ∧ rfo v = p) (hw : isR w = true ∧ rfo w = q) (H1 : ¬ p = q → V X K t L r h) (H2 : p = q → V X K (pc + 3) L r h) : V X K pc L (w :: v :: r) h := Snd.run (s_acne hd ht) o ⟨⟨hv.1, hw.1⟩, fun c => H1 (fun e => c (hv.2.trans (e.trans hw.2.symm))), fun c => H2 (hv.2.symm.trans (c.trans hw.2))⟩
theorem v_tsw {E : Et} {X : Xt} (o : OK E X) {K : Outcome → AH → Prop} {pc : Nat} {L r : List Value} {h : AH} {x : Int32} {df len : Nat} {dflt lo hi : Int} {offs : Array Int} {ts : List Nat} (hd : decode E.cc pc = .ok (.tableswitch dflt lo hi offs, len)) (hl : hi = lo + ts.length - 1) (hdf : (pc : Int) + dflt = (df : Int)) (ho : offs.toList.map (fun o => (pc : Int) + o) = ts.map (fun t : Nat => (t : Int))) (H : V X K (swt lo ts df x) L r h) : V X K pc L (.int x :: r) h := Snd.run (b := 0) (Snd.imp (s_tsw hd hl hdf ho) i_tsw) o H
/-- a field: 0 an int, 1 a long, 2 a reference, 3 a truth -/
def FD (kd t f k : Nat) (T : u_T) : Prop := ∃ C N ty, CF t C T N ty ∧ k < N ∧ 128 * t + k = f ∧ match kd with
  | 0 => fk t k = 0 ∧ ty k = .int
  | 1 => fk t k = 1 ∧ ty k = .long
  | 2 => fk t k = 2 ∧ (ty k).isReference = true
  | _ => fk t k = 0 ∧ ty k = .boolean
theorem v_gI {E : Et} {X : Xt} (o : OK E X) {K : Outcome → AH → Prop} {pc : Nat} {L r : List Value} {h : AH} {t f k i a : Nat} {T : u_T} {x : Int32} (hd : decode E.cc pc = .ok (.getfield i, 3)) (hf : FD 0 t f k T) (hl : LK E i T k) (ht : h.tag a = some (t, 0)) (hr : h.I f a = x) (H : V X K (pc + 3) L (.int x :: r) h) : V X K pc L (.ref a :: r) h := by
  obtain ⟨C, N, ty, c1, c2, c3, c4⟩ := hf
  exact Snd.run (s_gI k hd c1 c2 hl c3 c4.1) o ⟨ht, by rw [hr]; exact H⟩
theorem v_gZ {E : Et} {X : Xt} (o : OK E X) {K : Outcome → AH → Prop} {pc : Nat} {L r : List Value} {h : AH} {t f k i a : Nat} {T : u_T} {x : Int32} (hd : decode E.cc pc = .ok (.getfield i, 3)) (hf : FD 3 t f k T) (hl : LK E i T k) (ht : h.tag a = some (t, 0)) (hr : h.I f a = x) (H : V X K (pc + 3) L (.int x :: r) h) : V X K pc L (.ref a :: r) h := by
  obtain ⟨C, N, ty, c1, c2, c3, c4⟩ := hf
  exact Snd.run (s_gI k hd c1 c2 hl c3 c4.1) o ⟨ht, by rw [hr]; exact H⟩
theorem v_gJ {E : Et} {X : Xt} (o : OK E X) {K : Outcome → AH → Prop} {pc : Nat} {L r : List Value} {h : AH} {t f k i a : Nat} {T : u_T} {x : Int64} (hd : decode E.cc pc = .ok (.getfield i, 3)) (hf : FD 1 t f k T) (hl : LK E i T k) (ht : h.tag a = some (t, 0)) (hr : h.J f a = x) (H : V X K (pc + 3) L (.long x :: r) h) : V X K pc L (.ref a :: r) h := by
  obtain ⟨C, N, ty, c1, c2, c3, c4⟩ := hf
  exact Snd.run (s_gJ k hd c1 c2 hl c3 c4.1) o ⟨ht, by rw [hr]; exact H⟩
theorem v_gR {E : Et} {X : Xt} (o : OK E X) {K : Outcome → AH → Prop} {pc : Nat} {L r : List Value} {h : AH} {t f k i a : Nat} {T : u_T} {x : Option Nat} (hd : decode E.cc pc = .ok (.getfield i, 3)) (hf : FD 2 t f k T) (hl : LK E i T k) (ht : h.tag a = some (t, 0)) (hr : h.R f a = x) (H : V X K (pc + 3) L (va_rf x :: r) h) : V X K pc L (.ref a :: r) h := by
  obtain ⟨C, N, ty, c1, c2, c3, c4⟩ := hf
  exact Snd.run (s_gR k hd c1 c2 hl c3 c4.1) o ⟨ht, by rw [hr]; exact H⟩
theorem v_pI {E : Et} {X : Xt} (o : OK E X) {K : Outcome → AH → Prop} {pc : Nat} {L r : List Value} {h : AH} {t f k i a : Nat} {T : u_T} {x : Int32} (hd : decode E.cc pc = .ok (.putfield i, 3)) (hf : FD 0 t f k T) (hl : LK E i T k) (hw : WF E i T k) (ht : h.tag a = some (t, 0)) (H : V X K (pc + 3) L r (h.sI f a x)) : V X K pc L (.int x :: .ref a :: r) h := by
  obtain ⟨C, N, ty, c1, c2, c3, c4⟩ := hf
  exact Snd.run (s_pI k hd c1 c2 hl hw c3 c4.1 c4.2) o ⟨ht, H⟩
theorem v_pZ {E : Et} {X : Xt} (o : OK E X) {K : Outcome → AH → Prop} {pc : Nat} {L r : List Value} {h : AH} {t f k i a : Nat} {T : u_T} {x : Int32} (hd : decode E.cc pc = .ok (.putfield i, 3)) (hf : FD 3 t f k T) (hl : LK E i T k) (hw : WF E i T k) (ht : h.tag a = some (t, 0)) (hz : x = 0 ∨ x = 1) (H : V X K (pc + 3) L r (h.sI f a x)) : V X K pc L (.int x :: .ref a :: r) h := by
  obtain ⟨C, N, ty, c1, c2, c3, c4⟩ := hf
  exact Snd.run (s_pZ k hd c1 c2 hl hw c3 c4.1 c4.2) o ⟨⟨ht, hz⟩, H⟩
theorem v_pJ {E : Et} {X : Xt} (o : OK E X) {K : Outcome → AH → Prop} {pc : Nat} {L r : List Value} {h : AH} {t f k i a : Nat} {T : u_T} {x : Int64} (hd : decode E.cc pc = .ok (.putfield i, 3)) (hf : FD 1 t f k T) (hl : LK E i T k) (hw : WF E i T k) (ht : h.tag a = some (t, 0)) (H : V X K (pc + 3) L r (h.sJ f a x)) : V X K pc L (.long x :: .ref a :: r) h := by
  obtain ⟨C, N, ty, c1, c2, c3, c4⟩ := hf
  exact Snd.run (s_pJ k hd c1 c2 hl hw c3 c4.1 c4.2) o ⟨ht, H⟩
theorem v_pR {E : Et} {X : Xt} (o : OK E X) {K : Outcome → AH → Prop} {pc : Nat} {L r : List Value} {h : AH} {t f k i a : Nat} {T : u_T} {v : Value} {x : Option Nat} (hd : decode E.cc pc = .ok (.putfield i, 3)) (hf : FD 2 t f k T) (hl : LK E i T k) (hw : WF E i T k) (ht : h.tag a = some (t, 0)) (hv : isR v = true ∧ rfo v = x) (H : V X K (pc + 3) L r (h.sR f a x)) : V X K pc L (v :: .ref a :: r) h := by
  obtain ⟨C, N, ty, c1, c2, c3, c4⟩ := hf
  exact Snd.run (s_pR k hd c1 c2 hl hw c3 c4.1 c4.2) o ⟨⟨ht, hv.1⟩, by rw [hv.2]; exact H⟩
theorem v_iald {E : Et} {X : Xt} (o : OK E X) {K : Outcome → AH → Prop} {pc : Nat} {L r : List Value} {h : AH} {T n k a : Nat} {i : Int32} {x : Int32} (hd : decode E.cc pc = .ok (.iaload, 1)) (ht : h.tag a = some (T, n)) (hc : 64 ≤ T ∧ T % 16 = 0) (hi : IX i n k) (hr : h.EI T a k = x) (H : V X K (pc + 1) L (.int x :: r) h) : V X K pc L (.int i :: .ref a :: r) h := Snd.run (Snd.imp (s_iald hd) i_iald) o ⟨T, n, k, x, ht, hc, hi, hr, H⟩
theorem v_bald {E : Et} {X : Xt} (o : OK E X) {K : Outcome → AH → Prop} {pc : Nat} {L r : List Value} {h : AH} {T n k a : Nat} {i : Int32} {x : Int32} (hd : decode E.cc pc = .ok (.baload, 1)) (ht : h.tag a = some (T, n)) (hc : 64 ≤ T ∧ (T % 16 = 1 ∨ T % 16 = 2)) (hi : IX i n k) (hr : h.EI T a k = x) (H : V X K (pc + 1) L (.int x :: r) h) : V X K pc L (.int i :: .ref a :: r) h := Snd.run (Snd.imp (s_bald hd) i_bald) o ⟨T, n, k, x, ht, hc, hi, hr, H⟩
theorem v_lald {E : Et} {X : Xt} (o : OK E X) {K : Outcome → AH → Prop} {pc : Nat} {L r : List Value} {h : AH} {T n k a : Nat} {i : Int32} {x : Int64} (hd : decode E.cc pc = .ok (.laload, 1)) (ht : h.tag a = some (T, n)) (hc : 64 ≤ T ∧ T % 16 = 3) (hi : IX i n k) (hr : h.EJ T a k = x) (H : V X K (pc + 1) L (.long x :: r) h) : V X K pc L (.int i :: .ref a :: r) h := Snd.run (Snd.imp (s_lald hd) i_lald) o ⟨T, n, k, x, ht, hc, hi, hr, H⟩
theorem v_aald {E : Et} {X : Xt} (o : OK E X) {K : Outcome → AH → Prop} {pc : Nat} {L r : List Value} {h : AH} {T n k a : Nat} {i : Int32} {x : Option Nat} (hd : decode E.cc pc = .ok (.aaload, 1)) (ht : h.tag a = some (T, n)) (hc : 64 ≤ T ∧ 4 ≤ T % 16 ∧ T % 16 < 13) (hi : IX i n k) (hr : h.ER T a k = x) (H : V X K (pc + 1) L (va_rf x :: r) h) : V X K pc L (.int i :: .ref a :: r) h := Snd.run (Snd.imp (s_aald hd) i_aald) o ⟨T, n, k, x, ht, hc, hi, hr, H⟩
theorem v_iast {E : Et} {X : Xt} (o : OK E X) {K : Outcome → AH → Prop} {pc : Nat} {L r : List Value} {h : AH} {T n k a : Nat} {i : Int32} {x : Int32} (hd : decode E.cc pc = .ok (.iastore, 1)) (ht : h.tag a = some (T, n)) (hc : 64 ≤ T ∧ T < 4096 ∧ T % 16 = 0) (hi : IX i n k) (H : V X K (pc + 1) L r (h.sEI T a k (x))) : V X K pc L (.int x :: .int i :: .ref a :: r) h := Snd.run (Snd.imp (s_iast hd) i_iast) o ⟨T, n, k, ht, hc, hi, H⟩
theorem v_byast {E : Et} {X : Xt} (o : OK E X) {K : Outcome → AH → Prop} {pc : Nat} {L r : List Value} {h : AH} {T n k a : Nat} {i : Int32} {x : Int32} (hd : decode E.cc pc = .ok (.bastore, 1)) (ht : h.tag a = some (T, n)) (hc : 64 ≤ T ∧ T < 4096 ∧ T % 16 = 1) (hi : IX i n k) (H : V X K (pc + 1) L r (h.sEI T a k (x.toInt8.toInt32))) : V X K pc L (.int x :: .int i :: .ref a :: r) h := Snd.run (Snd.imp (s_bast hd) i_byast) o ⟨T, n, k, ht, hc, hi, H⟩
theorem v_zast {E : Et} {X : Xt} (o : OK E X) {K : Outcome → AH → Prop} {pc : Nat} {L r : List Value} {h : AH} {T n k a : Nat} {i : Int32} {x : Int32} (hd : decode E.cc pc = .ok (.bastore, 1)) (ht : h.tag a = some (T, n)) (hc : 64 ≤ T ∧ T < 4096 ∧ T % 16 = 2) (hz : x = 0 ∨ x = 1) (hi : IX i n k) (H : V X K (pc + 1) L r (h.sEI T a k (x))) : V X K pc L (.int x :: .int i :: .ref a :: r) h := Snd.run (Snd.imp (s_bast hd) i_zast) o ⟨T, n, k, ht, hc, hz, hi, H⟩
theorem v_last {E : Et} {X : Xt} (o : OK E X) {K : Outcome → AH → Prop} {pc : Nat} {L r : List Value} {h : AH} {T n k a : Nat} {i : Int32} {x : Int64} (hd : decode E.cc pc = .ok (.lastore, 1)) (ht : h.tag a = some (T, n)) (hc : 64 ≤ T ∧ T < 4096 ∧ T % 16 = 3) (hi : IX i n k) (H : V X K (pc + 1) L r (h.sEJ T a k (x))) : V X K pc L (.long x :: .int i :: .ref a :: r) h := Snd.run (Snd.imp (s_last hd) i_last) o ⟨T, n, k, ht, hc, hi, H⟩
theorem v_aast {E : Et} {X : Xt} (o : OK E X) {K : Outcome → AH → Prop} {pc : Nat} {L r : List Value} {h : AH} {T n k a : Nat} {i : Int32} {v : Value} {x : Option Nat} (hd : decode E.cc pc = .ok (.aastore, 1)) (ht : h.tag a = some (T, n)) (hc : 64 ≤ T ∧ T < 4096 ∧ 4 ≤ T % 16 ∧ T % 16 < 13) (hi : IX i n k) (hv : isR v = true ∧ rfo v = x) (hf : fitE h (T % 16) x) (H : V X K (pc + 1) L r (h.sER T a k x)) : V X K pc L (v :: .int i :: .ref a :: r) h := Snd.run (Snd.imp (s_aast hd) i_aast) o ⟨T, n, k, ht, hc, hi, hv.1, by rw [hv.2]; exact hf, by rw [hv.2]; exact H⟩
theorem v_alen {E : Et} {X : Xt} (o : OK E X) {K : Outcome → AH → Prop} {pc : Nat} {L r : List Value} {h : AH} {T n a : Nat} (hd : decode E.cc pc = .ok (.arraylength, 1)) (ht : h.tag a = some (T, n)) (hc : 64 ≤ T ∧ T % 16 < 13) (H : V X K (pc + 1) L (.int (nI n) :: r) h) : V X K pc L (.ref a :: r) h := Snd.run (Snd.imp (s_alen hd) i_alen) o ⟨T, n, ht, hc, H⟩
theorem v_new {E : Et} {X : Xt} (o : OK E X) {K : Outcome → AH → Prop} {pc : Nat} {L r : List Value} {h : AH} {t i N : Nat} {C : String} {T : u_T} {ty : Nat → FieldType} (hd : decode E.cc pc = .ok (.new i, 3)) (hc : CF t C T N ty) (h1 : Cond.classLink E.y.cls i C ∈ lw_all) (h2 : Cond.instantiable C N ∈ lw_all) (h3 : Cond.initialized C ∈ lw_all) (hm : h.n + 1 ≤ X.G.ln ∧ h.z + N ≤ X.G.ls) (H : V X K (pc + 3) L (.ref h.n :: r) (h.nw t 0 N)) : V X K pc L r h := Snd.run (s_new hd hc h1 h2 h3) o ⟨hm, H⟩
theorem v_newa {E : Et} {X : Xt} (o : OK E X) {K : Outcome → AH → Prop} {pc : Nat} {L r : List Value} {h : AH} {T k : Nat} {n : Int32} {at_ : ArrayType} (hd : decode E.cc pc = .ok (.newarray at_, 2)) (hw : Cond.arrayClass (newarray.typeOf at_) ∈ lw_all) (he : T % 16 < 4 ∧ ety (T % 16) = newarray.typeOf at_) (hk : n = nI k) (hT : 64 ≤ T ∧ T < 4096) (hm : k ≤ 65536 ∧ h.n + 1 ≤ X.G.ln ∧ h.z + k ≤ X.G.ls) (H : V X K (pc + 2) L (.ref h.n :: r) (h.nw T k k)) : V X K pc L (.int n :: r) h := Snd.run (Snd.imp (s_newa hd hw he) i_newa) o ⟨k, hk, hT, hm, H⟩
theorem v_anew {E : Et} {X : Xt} (o : OK E X) {K : Outcome → AH → Prop} {pc : Nat} {L r : List Value} {h : AH} {T k i : Nat} {n : Int32} {C : String} (hd : decode E.cc pc = .ok (.anewarray i, 3)) (hw : Cond.classLink E.y.cls i C ∈ lw_all) (he : (4 ≤ T % 16 ∧ T % 16 < 13) ∧ ety (T % 16) = .object C) (hk : n = nI k) (hT : 64 ≤ T ∧ T < 4096) (hm : k ≤ 65536 ∧ h.n + 1 ≤ X.G.ln ∧ h.z + k ≤ X.G.ls) (H : V X K (pc + 3) L (.ref h.n :: r) (h.nw T k k)) : V X K pc L (.int n :: r) h := Snd.run (Snd.imp (s_anew hd hw he) i_anew) o ⟨k, hk, hT, hm, H⟩
theorem v_iret {E : Et} {X : Xt} (o : OK E X) {K : Outcome → AH → Prop} {pc : Nat} {L : List Value} {h : AH} {x : Int32} (hd : decode E.cc pc = .ok (.ireturn, 1)) (hr : E.ret = some .int) (H : K (.returned (some (.int x))) h) : V X K pc L [.int x] h := Snd.run (b := 0) (s_iret hd hr) o H
theorem v_zret {E : Et} {X : Xt} (o : OK E X) {K : Outcome → AH → Prop} {pc : Nat} {L : List Value} {h : AH} {x : Int32} (hd : decode E.cc pc = .ok (.ireturn, 1)) (hr : E.ret = some .boolean) (hz : x = 0 ∨ x = 1) (H : K (.returned (some (.int x))) h) : V X K pc L [.int x] h := Snd.run (b := 0) (s_zret hd hr) o ⟨hz, H⟩
theorem v_lret {E : Et} {X : Xt} (o : OK E X) {K : Outcome → AH → Prop} {pc : Nat} {L : List Value} {h : AH} {x : Int64} (hd : decode E.cc pc = .ok (.lreturn, 1)) (hr : E.ret = some .long) (H : K (.returned (some (.long x))) h) : V X K pc L [.long x] h := Snd.run (b := 0) (s_lret hd hr) o H
theorem v_aret {E : Et} {X : Xt} (o : OK E X) {K : Outcome → AH → Prop} {pc : Nat} {L : List Value} {h : AH} {v : Value} {rt : FieldType} (hd : decode E.cc pc = .ok (.areturn, 1)) (hr : E.ret = some rt) (hrt : (∃ n, rt = .object n) ∨ ∃ t, rt = .array t) (hv : isR v = true) (H : K (.returned (some v)) h) : V X K pc L [v] h := Snd.run (b := 0) (s_aret hd hr hrt) o ⟨hv, H⟩
theorem v_vret {E : Et} {X : Xt} (o : OK E X) {K : Outcome → AH → Prop} {pc : Nat} {L : List Value} {h : AH} (hd : decode E.cc pc = .ok (.return_, 1)) (hr : E.ret = none) (H : K (.returned none) h) : V X K pc L [] h := Snd.run (b := 0) (s_vret hd hr) o H
theorem v_thr {E : Et} {X : Xt} (o : OK E X) {K : Outcome → AH → Prop} {pc : Nat} {L : List Value} {h : AH} {a : Nat} {r : List Value} (hd : decode E.cc pc = .ok (.athrow, 1)) (hh : (tableOf E.hh).all (fun x => !covers x pc) = true) (H : K (.threw a) h) : V X K pc L (.ref a :: r) h := Snd.run (b := 0) (s_thr hd hh) o H
theorem v_oinit {E : Et} {X : Xt} (o : OK E X) {K : Outcome → AH → Prop} {pc : Nat} {L r : List Value} {h : AH} {v : Value} {i : Nat} (hd : decode E.cc pc = .ok (.invokespecial i, 3)) (h1 : Cond.methodLink E.y.cls i Lib.objectInit ∈ lw_all) (h2 : Cond.instanceMethod Lib.objectInit ∈ lw_all) (h3 : Cond.code Lib.objectInit ⟨#[0xb1]⟩ 1 none ∈ lw_all) (hd1 : 1 ≤ X.d) (hs : Nat.ble r.length 12 = true) (hv : ∃ a, v = .ref a) (H : V X K (pc + 3) L r h) : V X K pc L (v :: r) h := by
  obtain ⟨a, rfl⟩ := hv
  exact Snd.run (s_oinit hd h1 h2 h3) o ⟨⟨hd1, sumcat24 _ hs⟩, H⟩
def ML (E : Et) (i : Nat) (M : Et) : Prop := Cond.methodLink E.y.cls i M.y ∈ lw_all ∨ ∃ host, Cond.methodLinkNest E.y.cls i M.y host ∈ nst_
theorem v_invs {E : Et} {X : Xt} (o : OK E X) {K : Outcome → AH → Prop} {pc : Nat} {L r : List Value} {h : AH} {i n : Nat} {M : Et} {st as : List Value} (hd : decode E.cc pc = .ok (.invokestatic i, 3)) (hk : MK M n) (hl : ML E i M) (hst : Cond.static M.y ∈ lw_all) (hh : (tableOf E.hh).all (fun x => !covers x pc) = true) (hd1 : 1 ≤ X.d) (hn : Nat.ble n st.length = true) (ha : (st.take n).reverse = as) (hr : st.drop n = r) (hs : Nat.ble r.length 12 = true) (H : MW X.G (X.d - 1) M as h (kin (V X K (pc + 3)) K L r)) : V X K pc L st h := by
  subst ha; subst hr
  exact Snd.run (s_invs hd hk hl hst hh) o ⟨⟨hd1, Nat.le_of_ble_eq_true hn, sumcat24 _ hs⟩, H⟩
theorem v_invv {E : Et} {X : Xt} (o : OK E X) {K : Outcome → AH → Prop} {pc : Nat} {L r : List Value} {h : AH} {i n t b : Nat} {M : Et} {r0 : vw_C} {st as : List Value} (hd : decode E.cc pc = .ok (.invokevirtual i, 3)) (hk : MK M n) (hl : ML E i M) (hc : cl_[t]? = some r0) (hlt : t < 64) (hi : Cond.instanceMethod M.y ∈ lw_all) (hsl : Cond.selects r0.1 M.y M.y ∈ lw_all) (hh : (tableOf E.hh).all (fun x => !covers x pc) = true) (hd1 : 1 ≤ X.d) (hn : Nat.ble n st.length = true) (ha : (st.take n).reverse = as) (hr : st.drop n = .ref b :: r) (hs : Nat.ble r.length 12 = true) (ht : h.tag b = some (t, 0)) (H : MW X.G (X.d - 1) M (.ref b :: as) h (kin (V X K (pc + 3)) K L r)) : V X K pc L st h := by
  subst ha
  exact Snd.run (s_invv hd hk hl hc hlt hi hsl hh) o (by unfold w_invv; rw [hr]; exact ⟨⟨hd1, Nat.le_of_ble_eq_true hn, ht, sumcat24 _ hs⟩, H⟩)
theorem v_invi {E : Et} {X : Xt} (o : OK E X) {K : Outcome → AH → Prop} {pc : Nat} {L r : List Value} {h : AH} {i n b : Nat} {M : Et} {st as : List Value} (hd : decode E.cc pc = .ok (.invokespecial i, 3)) (hk : MK M n) (hl : ML E i M) (hi : Cond.instanceMethod M.y ∈ lw_all) (hn1 : M.y.name = "<init>") (hm : M.hh = [] ∧ M.ret = none) (hh : (tableOf E.hh).all (fun x => !covers x pc) = true) (hd1 : 1 ≤ X.d) (hn : Nat.ble n st.length = true) (ha : (st.take n).reverse = as) (hr : st.drop n = .ref b :: r) (hs : Nat.ble r.length 12 = true) (H : MW X.G (X.d - 1) M (.ref b :: as) h (kin (V X K (pc + 3)) K L r)) : V X K pc L st h := by
  subst ha
  exact Snd.run (s_invi hd hk hl hi hn1 hm hh) o (by unfold w_invi; rw [hr]; exact ⟨⟨hd1, Nat.le_of_ble_eq_true hn, sumcat24 _ hs⟩, H⟩)
/-! constants in statics -/
theorem v_gets {E : Et} {X : Xt} (o : OK E X) {K : Outcome → AH → Prop} {pc : Nat} {L r : List Value} {h : AH} {i k : Nat} {C n d : String} (hd : decode E.cc pc = .ok (.getstatic i, 3)) (hl : Cond.fieldLink E.y.cls i C n d ∈ lw_all) (hz : ∀ G U, SC G U → va_Z C n d (.ref (G.ad k)) (fun q => G.b ≤ q) U G.h0) (H : V X K (pc + 3) L (.ref (X.G.ad k) :: r) h) : V X K pc L r h := by
  intro Hp locs cells slots ls h1 h2 h3 h4 h5
  obtain ⟨cf, kf, fi, f, a, cell, z1, z2, z3, z4, z5, z6, z7, z8⟩ := hz _ _ o.2.1.2.2.1.2.2.2
  exact W.gets o.1.1 o.1.2.1 o.2.1.1 (o.2.1.2.1 _ hl) z1 z2 z3 z4 (by rw [h1.2.1.2 a (Nat.not_le.mp z8)]; exact z5) (fun e => by rw [e] at z6; cases z6) z7 rfl hd (H Hp locs cells slots ls h1 h2 h3 h4 h5)
theorem v_gF {E : Et} {X : Xt} (o : OK E X) {K : Outcome → AH → Prop} {pc : Nat} {L r : List Value} {h : AH} {i j k a : Nat} {C n : String} {l : List Int32} (hd : decode E.cc pc = .ok (.getfield i, 3)) (hl : ∃ host, Cond.fieldLinkNest E.y.cls i C n "I" host ∈ nst_) (hj : ffl_[j]? = some (C, n, "I", l)) (ha : a = X.G.ad k) (hk : k < 11) (H : V X K (pc + 3) L (.int (l.getD k 0) :: r) h) : V X K pc L (.ref a :: r) h := by
  intro Hp locs cells slots ls h1 h2 h3 h4 h5
  subst ha
  obtain ⟨host, hl⟩ := hl
  obtain ⟨cf, k', fi, f, cell, z1, z2, z3, z4, z5, z6⟩ := (o.2.1.2.2.1.2.2.2.1.1 k hk).2.2 _ (List.mem_of_getElem? hj)
  exact va_Wgetf (host := host) o.1.1 o.1.2.1 o.2.1.1 (va_Nw.use rfl (o.2.1.2.2.1.2.1 _ hl)) z1 z2 (by rw [h1.2.1.2 _ (Nat.not_le.mp z6)]; exact z3) z4 z5 rfl rfl hd (H Hp locs cells slots ls h1 h2 h3 h4 h5)
theorem z_11 (G : Gt) (U : State) (h : SC G U) : va_Z "ResourceLedger" "COIN" "[I" (.ref (G.ad 11)) (fun q => G.b ≤ q) U G.h0 := h.2.1.1
theorem z_12 (G : Gt) (U : State) (h : SC G U) : va_Z "ResourceLedger$Reader" "BEGINNING" "[I" (.ref (G.ad 12)) (fun q => G.b ≤ q) U G.h0 := h.2.1.2.1
theorem z_13 (G : Gt) (U : State) (h : SC G U) : va_Z "ResourceLedger$HashTree$Digest" "ROUNDS" "[I" (.ref (G.ad 13)) (fun q => G.b ≤ q) U G.h0 := h.2.1.2.2.1
theorem z_14 (G : Gt) (U : State) (h : SC G U) : va_Z "ResourceLedgerModel$Digester" "CONSTANTS" "[J" (.ref (G.ad 14)) (fun q => G.b ≤ q) U G.h0 := h.2.1.2.2.2
theorem z_0 (G : Gt) (U : State) (h : SC G U) : va_Z "ResourceLedger$Form" "NONE" "LResourceLedger$Form;" (.ref (G.ad 0)) (fun q => G.b ≤ q) U G.h0 := (h.1.1 0 (by decide)).1
theorem z_1 (G : Gt) (U : State) (h : SC G U) : va_Z "ResourceLedger$Form" "BYTE" "LResourceLedger$Form;" (.ref (G.ad 1)) (fun q => G.b ≤ q) U G.h0 := (h.1.1 1 (by decide)).1
theorem z_2 (G : Gt) (U : State) (h : SC G U) : va_Z "ResourceLedger$Form" "LOCAL" "LResourceLedger$Form;" (.ref (G.ad 2)) (fun q => G.b ≤ q) U G.h0 := (h.1.1 2 (by decide)).1
theorem z_3 (G : Gt) (U : State) (h : SC G U) : va_Z "ResourceLedger$Form" "OWN" "LResourceLedger$Form;" (.ref (G.ad 3)) (fun q => G.b ≤ q) U G.h0 := (h.1.1 3 (by decide)).1
theorem z_4 (G : Gt) (U : State) (h : SC G U) : va_Z "ResourceLedger$Form" "FUNCTION" "LResourceLedger$Form;" (.ref (G.ad 4)) (fun q => G.b ≤ q) U G.h0 := (h.1.1 4 (by decide)).1
theorem z_5 (G : Gt) (U : State) (h : SC G U) : va_Z "ResourceLedger$Form" "ELEMENT" "LResourceLedger$Form;" (.ref (G.ad 5)) (fun q => G.b ≤ q) U G.h0 := (h.1.1 5 (by decide)).1
theorem z_6 (G : Gt) (U : State) (h : SC G U) : va_Z "ResourceLedger$Form" "FIELD" "LResourceLedger$Form;" (.ref (G.ad 6)) (fun q => G.b ≤ q) U G.h0 := (h.1.1 6 (by decide)).1
theorem z_7 (G : Gt) (U : State) (h : SC G U) : va_Z "ResourceLedger$Form" "MAKE" "LResourceLedger$Form;" (.ref (G.ad 7)) (fun q => G.b ≤ q) U G.h0 := (h.1.1 7 (by decide)).1
theorem z_8 (G : Gt) (U : State) (h : SC G U) : va_Z "ResourceLedger$Form" "TARGET" "LResourceLedger$Form;" (.ref (G.ad 8)) (fun q => G.b ≤ q) U G.h0 := (h.1.1 8 (by decide)).1
theorem z_9 (G : Gt) (U : State) (h : SC G U) : va_Z "ResourceLedger$Form" "LONG" "LResourceLedger$Form;" (.ref (G.ad 9)) (fun q => G.b ≤ q) U G.h0 := (h.1.1 9 (by decide)).1
theorem z_10 (G : Gt) (U : State) (h : SC G U) : va_Z "ResourceLedger$Form" "WIDE" "LResourceLedger$Form;" (.ref (G.ad 10)) (fun q => G.b ≤ q) U G.h0 := (h.1.1 10 (by decide)).1
/-! fields, links -/
theorem fd_0 : FD 2 0 0 0 TX1 := ⟨RX1, 34, tyX1, cf_X1, by decide, rfl, rfl, rfl⟩
theorem fd_1 : FD 2 0 1 1 TX1 := ⟨RX1, 34, tyX1, cf_X1, by decide, rfl, rfl, rfl⟩
theorem fd_2 : FD 2 0 2 2 TX1 := ⟨RX1, 34, tyX1, cf_X1, by decide, rfl, rfl, rfl⟩
theorem fd_3 : FD 2 0 3 3 TX1 := ⟨RX1, 34, tyX1, cf_X1, by decide, rfl, rfl, rfl⟩
theorem fd_4 : FD 0 0 4 4 TX1 := ⟨RX1, 34, tyX1, cf_X1, by decide, rfl, rfl, rfl⟩
theorem fd_5 : FD 0 0 5 5 TX1 := ⟨RX1, 34, tyX1, cf_X1, by decide, rfl, rfl, rfl⟩
theorem fd_6 : FD 0 0 6 6 TX1 := ⟨RX1, 34, tyX1, cf_X1, by decide, rfl, rfl, rfl⟩
theorem fd_7 : FD 2 0 7 7 TX1 := ⟨RX1, 34, tyX1, cf_X1, by decide, rfl, rfl, rfl⟩
theorem fd_8 : FD 2 0 8 8 TX1 := ⟨RX1, 34, tyX1, cf_X1, by decide, rfl, rfl, rfl⟩
theorem fd_9 : FD 0 0 9 9 TX1 := ⟨RX1, 34, tyX1, cf_X1, by decide, rfl, rfl, rfl⟩
theorem fd_10 : FD 0 0 10 10 TX1 := ⟨RX1, 34, tyX1, cf_X1, by decide, rfl, rfl, rfl⟩
theorem fd_11 : FD 0 0 11 11 TX1 := ⟨RX1, 34, tyX1, cf_X1, by decide, rfl, rfl, rfl⟩
theorem fd_12 : FD 0 0 12 12 TX1 := ⟨RX1, 34, tyX1, cf_X1, by decide, rfl, rfl, rfl⟩
theorem fd_13 : FD 2 0 13 13 TX1 := ⟨RX1, 34, tyX1, cf_X1, by decide, rfl, rfl, rfl⟩
theorem fd_14 : FD 2 0 14 14 TX1 := ⟨RX1, 34, tyX1, cf_X1, by decide, rfl, rfl, rfl⟩
theorem fd_15 : FD 2 0 15 15 TX1 := ⟨RX1, 34, tyX1, cf_X1, by decide, rfl, rfl, rfl⟩
theorem fd_16 : FD 0 0 16 16 TX1 := ⟨RX1, 34, tyX1, cf_X1, by decide, rfl, rfl, rfl⟩
theorem fd_17 : FD 1 0 17 17 TX1 := ⟨RX1, 34, tyX1, cf_X1, by decide, rfl, rfl, rfl⟩
theorem fd_18 : FD 1 0 18 18 TX1 := ⟨RX1, 34, tyX1, cf_X1, by decide, rfl, rfl, rfl⟩
theorem fd_19 : FD 2 0 19 19 TX1 := ⟨RX1, 34, tyX1, cf_X1, by decide, rfl, rfl, rfl⟩
theorem fd_20 : FD 3 0 20 20 TX1 := ⟨RX1, 34, tyX1, cf_X1, by decide, rfl, rfl, rfl⟩
theorem fd_21 : FD 2 0 21 21 TX1 := ⟨RX1, 34, tyX1, cf_X1, by decide, rfl, rfl, rfl⟩
theorem fd_22 : FD 0 0 22 22 TX1 := ⟨RX1, 34, tyX1, cf_X1, by decide, rfl, rfl, rfl⟩
theorem fd_23 : FD 2 0 23 23 TX1 := ⟨RX1, 34, tyX1, cf_X1, by decide, rfl, rfl, rfl⟩
theorem fd_24 : FD 0 0 24 24 TX1 := ⟨RX1, 34, tyX1, cf_X1, by decide, rfl, rfl, rfl⟩
theorem fd_25 : FD 1 0 25 25 TX1 := ⟨RX1, 34, tyX1, cf_X1, by decide, rfl, rfl, rfl⟩
theorem fd_26 : FD 2 0 26 26 TX1 := ⟨RX1, 34, tyX1, cf_X1, by decide, rfl, rfl, rfl⟩
theorem fd_27 : FD 2 0 27 27 TX1 := ⟨RX1, 34, tyX1, cf_X1, by decide, rfl, rfl, rfl⟩
theorem fd_28 : FD 2 0 28 28 TX1 := ⟨RX1, 34, tyX1, cf_X1, by decide, rfl, rfl, rfl⟩
theorem fd_29 : FD 0 0 29 29 TX1 := ⟨RX1, 34, tyX1, cf_X1, by decide, rfl, rfl, rfl⟩
theorem fd_30 : FD 0 0 30 30 TX1 := ⟨RX1, 34, tyX1, cf_X1, by decide, rfl, rfl, rfl⟩
theorem fd_31 : FD 2 0 31 31 TX1 := ⟨RX1, 34, tyX1, cf_X1, by decide, rfl, rfl, rfl⟩
theorem fd_32 : FD 0 0 32 32 TX1 := ⟨RX1, 34, tyX1, cf_X1, by decide, rfl, rfl, rfl⟩
theorem fd_33 : FD 2 0 33 33 TX1 := ⟨RX1, 34, tyX1, cf_X1, by decide, rfl, rfl, rfl⟩
theorem fd_128 : FD 2 1 128 0 TX2 := ⟨RX2, 4, tyX2, cf_X2, by decide, rfl, rfl, rfl⟩
theorem fd_129 : FD 2 1 129 1 TX2 := ⟨RX2, 4, tyX2, cf_X2, by decide, rfl, rfl, rfl⟩
theorem fd_130 : FD 0 1 130 2 TX2 := ⟨RX2, 4, tyX2, cf_X2, by decide, rfl, rfl, rfl⟩
theorem fd_131 : FD 2 1 131 3 TX2 := ⟨RX2, 4, tyX2, cf_X2, by decide, rfl, rfl, rfl⟩
theorem fd_256 : FD 0 2 256 0 TX3 := ⟨RX3, 10, tyX3, cf_X3, by decide, rfl, rfl, rfl⟩
theorem fd_257 : FD 2 2 257 1 TX3 := ⟨RX3, 10, tyX3, cf_X3, by decide, rfl, rfl, rfl⟩
theorem fd_258 : FD 2 2 258 2 TX3 := ⟨RX3, 10, tyX3, cf_X3, by decide, rfl, rfl, rfl⟩
theorem fd_259 : FD 2 2 259 3 TX3 := ⟨RX3, 10, tyX3, cf_X3, by decide, rfl, rfl, rfl⟩
theorem fd_260 : FD 2 2 260 4 TX3 := ⟨RX3, 10, tyX3, cf_X3, by decide, rfl, rfl, rfl⟩
theorem fd_261 : FD 2 2 261 5 TX3 := ⟨RX3, 10, tyX3, cf_X3, by decide, rfl, rfl, rfl⟩
theorem fd_262 : FD 0 2 262 6 TX3 := ⟨RX3, 10, tyX3, cf_X3, by decide, rfl, rfl, rfl⟩
theorem fd_263 : FD 0 2 263 7 TX3 := ⟨RX3, 10, tyX3, cf_X3, by decide, rfl, rfl, rfl⟩
theorem fd_264 : FD 0 2 264 8 TX3 := ⟨RX3, 10, tyX3, cf_X3, by decide, rfl, rfl, rfl⟩
theorem fd_265 : FD 0 2 265 9 TX3 := ⟨RX3, 10, tyX3, cf_X3, by decide, rfl, rfl, rfl⟩
theorem fd_384 : FD 2 3 384 0 TX4 := ⟨RX4, 3, tyX4, cf_X4, by decide, rfl, rfl, rfl⟩
theorem fd_385 : FD 2 3 385 1 TX4 := ⟨RX4, 3, tyX4, cf_X4, by decide, rfl, rfl, rfl⟩
theorem fd_386 : FD 0 3 386 2 TX4 := ⟨RX4, 3, tyX4, cf_X4, by decide, rfl, rfl, rfl⟩
theorem fd_512 : FD 0 4 512 0 TX5 := ⟨RX5, 2, tyX5, cf_X5, by decide, rfl, rfl, rfl⟩
theorem fd_513 : FD 0 4 513 1 TX5 := ⟨RX5, 2, tyX5, cf_X5, by decide, rfl, rfl, rfl⟩
theorem fd_640 : FD 2 5 640 0 TX6 := ⟨RX6, 5, tyX6, cf_X6, by decide, rfl, rfl, rfl⟩
theorem fd_641 : FD 2 5 641 1 TX6 := ⟨RX6, 5, tyX6, cf_X6, by decide, rfl, rfl, rfl⟩
theorem fd_642 : FD 2 5 642 2 TX6 := ⟨RX6, 5, tyX6, cf_X6, by decide, rfl, rfl, rfl⟩
theorem fd_643 : FD 2 5 643 3 TX6 := ⟨RX6, 5, tyX6, cf_X6, by decide, rfl, rfl, rfl⟩
theorem fd_644 : FD 0 5 644 4 TX6 := ⟨RX6, 5, tyX6, cf_X6, by decide, rfl, rfl, rfl⟩
theorem fd_768 : FD 0 6 768 0 TX7 := ⟨RX7, 5, tyX7, cf_X7, by decide, rfl, rfl, rfl⟩
theorem fd_769 : FD 0 6 769 1 TX7 := ⟨RX7, 5, tyX7, cf_X7, by decide, rfl, rfl, rfl⟩
theorem fd_770 : FD 2 6 770 2 TX7 := ⟨RX7, 5, tyX7, cf_X7, by decide, rfl, rfl, rfl⟩
theorem fd_771 : FD 0 6 771 3 TX7 := ⟨RX7, 5, tyX7, cf_X7, by decide, rfl, rfl, rfl⟩
theorem fd_772 : FD 0 6 772 4 TX7 := ⟨RX7, 5, tyX7, cf_X7, by decide, rfl, rfl, rfl⟩
theorem fd_896 : FD 0 7 896 0 TX8 := ⟨RX8, 8, tyX8, cf_X8, by decide, rfl, rfl, rfl⟩
theorem fd_897 : FD 2 7 897 1 TX8 := ⟨RX8, 8, tyX8, cf_X8, by decide, rfl, rfl, rfl⟩
theorem fd_898 : FD 2 7 898 2 TX8 := ⟨RX8, 8, tyX8, cf_X8, by decide, rfl, rfl, rfl⟩
theorem fd_899 : FD 2 7 899 3 TX8 := ⟨RX8, 8, tyX8, cf_X8, by decide, rfl, rfl, rfl⟩
theorem fd_900 : FD 0 7 900 4 TX8 := ⟨RX8, 8, tyX8, cf_X8, by decide, rfl, rfl, rfl⟩
theorem fd_901 : FD 0 7 901 5 TX8 := ⟨RX8, 8, tyX8, cf_X8, by decide, rfl, rfl, rfl⟩
theorem fd_902 : FD 0 7 902 6 TX8 := ⟨RX8, 8, tyX8, cf_X8, by decide, rfl, rfl, rfl⟩
theorem fd_903 : FD 0 7 903 7 TX8 := ⟨RX8, 8, tyX8, cf_X8, by decide, rfl, rfl, rfl⟩
theorem fd_1024 : FD 2 8 1024 0 TX9 := ⟨RX9, 2, tyX9, cf_X9, by decide, rfl, rfl, rfl⟩
theorem fd_1025 : FD 0 8 1025 1 TX9 := ⟨RX9, 2, tyX9, cf_X9, by decide, rfl, rfl, rfl⟩
theorem fd_1152 : FD 0 9 1152 0 TX10 := ⟨RX10, 13, tyX10, cf_X10, by decide, rfl, rfl, rfl⟩
theorem fd_1153 : FD 1 9 1153 1 TX10 := ⟨RX10, 13, tyX10, cf_X10, by decide, rfl, rfl, rfl⟩
theorem fd_1154 : FD 0 9 1154 2 TX10 := ⟨RX10, 13, tyX10, cf_X10, by decide, rfl, rfl, rfl⟩
theorem fd_1155 : FD 3 9 1155 3 TX10 := ⟨RX10, 13, tyX10, cf_X10, by decide, rfl, rfl, rfl⟩
theorem fd_1156 : FD 1 9 1156 4 TX10 := ⟨RX10, 13, tyX10, cf_X10, by decide, rfl, rfl, rfl⟩
theorem fd_1157 : FD 1 9 1157 5 TX10 := ⟨RX10, 13, tyX10, cf_X10, by decide, rfl, rfl, rfl⟩
theorem fd_1158 : FD 2 9 1158 6 TX10 := ⟨RX10, 13, tyX10, cf_X10, by decide, rfl, rfl, rfl⟩
theorem fd_1159 : FD 2 9 1159 7 TX10 := ⟨RX10, 13, tyX10, cf_X10, by decide, rfl, rfl, rfl⟩
theorem fd_1160 : FD 0 9 1160 8 TX10 := ⟨RX10, 13, tyX10, cf_X10, by decide, rfl, rfl, rfl⟩
theorem fd_1161 : FD 0 9 1161 9 TX10 := ⟨RX10, 13, tyX10, cf_X10, by decide, rfl, rfl, rfl⟩
theorem fd_1162 : FD 3 9 1162 10 TX10 := ⟨RX10, 13, tyX10, cf_X10, by decide, rfl, rfl, rfl⟩
theorem fd_1163 : FD 3 9 1163 11 TX10 := ⟨RX10, 13, tyX10, cf_X10, by decide, rfl, rfl, rfl⟩
theorem fd_1164 : FD 3 9 1164 12 TX10 := ⟨RX10, 13, tyX10, cf_X10, by decide, rfl, rfl, rfl⟩
theorem fd_1280 : FD 2 10 1280 0 TX11 := ⟨RX11, 1, tyX11, cf_X11, by decide, rfl, rfl, rfl⟩
theorem fd_1408 : FD 2 11 1408 0 TX12 := ⟨RX12, 9, tyX12, cf_X12, by decide, rfl, rfl, rfl⟩
theorem fd_1409 : FD 0 11 1409 1 TX12 := ⟨RX12, 9, tyX12, cf_X12, by decide, rfl, rfl, rfl⟩
theorem fd_1410 : FD 0 11 1410 2 TX12 := ⟨RX12, 9, tyX12, cf_X12, by decide, rfl, rfl, rfl⟩
theorem fd_1411 : FD 2 11 1411 3 TX12 := ⟨RX12, 9, tyX12, cf_X12, by decide, rfl, rfl, rfl⟩
theorem fd_1412 : FD 0 11 1412 4 TX12 := ⟨RX12, 9, tyX12, cf_X12, by decide, rfl, rfl, rfl⟩
theorem fd_1413 : FD 0 11 1413 5 TX12 := ⟨RX12, 9, tyX12, cf_X12, by decide, rfl, rfl, rfl⟩
theorem fd_1414 : FD 2 11 1414 6 TX12 := ⟨RX12, 9, tyX12, cf_X12, by decide, rfl, rfl, rfl⟩
theorem fd_1415 : FD 0 11 1415 7 TX12 := ⟨RX12, 9, tyX12, cf_X12, by decide, rfl, rfl, rfl⟩
theorem fd_1416 : FD 2 11 1416 8 TX12 := ⟨RX12, 9, tyX12, cf_X12, by decide, rfl, rfl, rfl⟩
theorem fd_1536 : FD 2 12 1536 0 TX13 := ⟨RX13, 16, tyX13, cf_X13, by decide, rfl, rfl, rfl⟩
theorem fd_1537 : FD 2 12 1537 1 TX13 := ⟨RX13, 16, tyX13, cf_X13, by decide, rfl, rfl, rfl⟩
theorem fd_1538 : FD 2 12 1538 2 TX13 := ⟨RX13, 16, tyX13, cf_X13, by decide, rfl, rfl, rfl⟩
theorem fd_1539 : FD 0 12 1539 3 TX13 := ⟨RX13, 16, tyX13, cf_X13, by decide, rfl, rfl, rfl⟩
theorem fd_1540 : FD 2 12 1540 4 TX13 := ⟨RX13, 16, tyX13, cf_X13, by decide, rfl, rfl, rfl⟩
theorem fd_1541 : FD 2 12 1541 5 TX13 := ⟨RX13, 16, tyX13, cf_X13, by decide, rfl, rfl, rfl⟩
theorem fd_1542 : FD 0 12 1542 6 TX13 := ⟨RX13, 16, tyX13, cf_X13, by decide, rfl, rfl, rfl⟩
theorem fd_1543 : FD 1 12 1543 7 TX13 := ⟨RX13, 16, tyX13, cf_X13, by decide, rfl, rfl, rfl⟩
theorem fd_1544 : FD 2 12 1544 8 TX13 := ⟨RX13, 16, tyX13, cf_X13, by decide, rfl, rfl, rfl⟩
theorem fd_1545 : FD 1 12 1545 9 TX13 := ⟨RX13, 16, tyX13, cf_X13, by decide, rfl, rfl, rfl⟩
theorem fd_1546 : FD 1 12 1546 10 TX13 := ⟨RX13, 16, tyX13, cf_X13, by decide, rfl, rfl, rfl⟩
theorem fd_1547 : FD 2 12 1547 11 TX13 := ⟨RX13, 16, tyX13, cf_X13, by decide, rfl, rfl, rfl⟩
theorem fd_1548 : FD 2 12 1548 12 TX13 := ⟨RX13, 16, tyX13, cf_X13, by decide, rfl, rfl, rfl⟩
theorem fd_1549 : FD 2 12 1549 13 TX13 := ⟨RX13, 16, tyX13, cf_X13, by decide, rfl, rfl, rfl⟩
theorem fd_1550 : FD 2 12 1550 14 TX13 := ⟨RX13, 16, tyX13, cf_X13, by decide, rfl, rfl, rfl⟩
theorem fd_1551 : FD 0 12 1551 15 TX13 := ⟨RX13, 16, tyX13, cf_X13, by decide, rfl, rfl, rfl⟩
theorem fd_1664 : FD 2 13 1664 0 TX14 := ⟨RX14, 3, tyX14, cf_X14, by decide, rfl, rfl, rfl⟩
theorem fd_1665 : FD 2 13 1665 1 TX14 := ⟨RX14, 3, tyX14, cf_X14, by decide, rfl, rfl, rfl⟩
theorem fd_1666 : FD 2 13 1666 2 TX14 := ⟨RX14, 3, tyX14, cf_X14, by decide, rfl, rfl, rfl⟩
theorem fd_1792 : FD 2 14 1792 0 TX15 := ⟨RX15, 7, tyX15, cf_X15, by decide, rfl, rfl, rfl⟩
theorem fd_1793 : FD 2 14 1793 1 TX15 := ⟨RX15, 7, tyX15, cf_X15, by decide, rfl, rfl, rfl⟩
theorem fd_1794 : FD 0 14 1794 2 TX15 := ⟨RX15, 7, tyX15, cf_X15, by decide, rfl, rfl, rfl⟩
theorem fd_1795 : FD 0 14 1795 3 TX15 := ⟨RX15, 7, tyX15, cf_X15, by decide, rfl, rfl, rfl⟩
theorem fd_1796 : FD 2 14 1796 4 TX15 := ⟨RX15, 7, tyX15, cf_X15, by decide, rfl, rfl, rfl⟩
theorem fd_1797 : FD 2 14 1797 5 TX15 := ⟨RX15, 7, tyX15, cf_X15, by decide, rfl, rfl, rfl⟩
theorem fd_1798 : FD 2 14 1798 6 TX15 := ⟨RX15, 7, tyX15, cf_X15, by decide, rfl, rfl, rfl⟩
theorem fd_1920 : FD 2 15 1920 0 TX16 := ⟨RX16, 6, tyX16, cf_X16, by decide, rfl, rfl, rfl⟩
theorem fd_1921 : FD 2 15 1921 1 TX16 := ⟨RX16, 6, tyX16, cf_X16, by decide, rfl, rfl, rfl⟩
theorem fd_1922 : FD 2 15 1922 2 TX16 := ⟨RX16, 6, tyX16, cf_X16, by decide, rfl, rfl, rfl⟩
theorem fd_1923 : FD 2 15 1923 3 TX16 := ⟨RX16, 6, tyX16, cf_X16, by decide, rfl, rfl, rfl⟩
theorem fd_1924 : FD 0 15 1924 4 TX16 := ⟨RX16, 6, tyX16, cf_X16, by decide, rfl, rfl, rfl⟩
theorem fd_1925 : FD 1 15 1925 5 TX16 := ⟨RX16, 6, tyX16, cf_X16, by decide, rfl, rfl, rfl⟩
theorem fd_2048 : FD 2 16 2048 0 TX17 := ⟨RX17, 11, tyX17, cf_X17, by decide, rfl, rfl, rfl⟩
theorem fd_2049 : FD 2 16 2049 1 TX17 := ⟨RX17, 11, tyX17, cf_X17, by decide, rfl, rfl, rfl⟩
theorem fd_2050 : FD 2 16 2050 2 TX17 := ⟨RX17, 11, tyX17, cf_X17, by decide, rfl, rfl, rfl⟩
theorem fd_2051 : FD 2 16 2051 3 TX17 := ⟨RX17, 11, tyX17, cf_X17, by decide, rfl, rfl, rfl⟩
theorem fd_2052 : FD 2 16 2052 4 TX17 := ⟨RX17, 11, tyX17, cf_X17, by decide, rfl, rfl, rfl⟩
theorem fd_2053 : FD 2 16 2053 5 TX17 := ⟨RX17, 11, tyX17, cf_X17, by decide, rfl, rfl, rfl⟩
theorem fd_2054 : FD 2 16 2054 6 TX17 := ⟨RX17, 11, tyX17, cf_X17, by decide, rfl, rfl, rfl⟩
theorem fd_2055 : FD 2 16 2055 7 TX17 := ⟨RX17, 11, tyX17, cf_X17, by decide, rfl, rfl, rfl⟩
theorem fd_2056 : FD 2 16 2056 8 TX17 := ⟨RX17, 11, tyX17, cf_X17, by decide, rfl, rfl, rfl⟩
theorem fd_2057 : FD 0 16 2057 9 TX17 := ⟨RX17, 11, tyX17, cf_X17, by decide, rfl, rfl, rfl⟩
theorem fd_2058 : FD 0 16 2058 10 TX17 := ⟨RX17, 11, tyX17, cf_X17, by decide, rfl, rfl, rfl⟩
theorem fd_2176 : FD 2 17 2176 0 TX18 := ⟨RX18, 1, tyX18, cf_X18, by decide, rfl, rfl, rfl⟩
theorem fd_2304 : FD 1 18 2304 0 TX19 := ⟨RX19, 3, tyX19, cf_X19, by decide, rfl, rfl, rfl⟩
theorem fd_2305 : FD 1 18 2305 1 TX19 := ⟨RX19, 3, tyX19, cf_X19, by decide, rfl, rfl, rfl⟩
theorem fd_2306 : FD 3 18 2306 2 TX19 := ⟨RX19, 3, tyX19, cf_X19, by decide, rfl, rfl, rfl⟩
theorem fd_2432 : FD 0 19 2432 0 TX20 := ⟨RX20, 12, tyX20, cf_X20, by decide, rfl, rfl, rfl⟩
theorem fd_2433 : FD 0 19 2433 1 TX20 := ⟨RX20, 12, tyX20, cf_X20, by decide, rfl, rfl, rfl⟩
theorem fd_2434 : FD 0 19 2434 2 TX20 := ⟨RX20, 12, tyX20, cf_X20, by decide, rfl, rfl, rfl⟩
theorem fd_2435 : FD 0 19 2435 3 TX20 := ⟨RX20, 12, tyX20, cf_X20, by decide, rfl, rfl, rfl⟩
theorem fd_2436 : FD 3 19 2436 4 TX20 := ⟨RX20, 12, tyX20, cf_X20, by decide, rfl, rfl, rfl⟩
theorem fd_2437 : FD 2 19 2437 5 TX20 := ⟨RX20, 12, tyX20, cf_X20, by decide, rfl, rfl, rfl⟩
theorem fd_2438 : FD 0 19 2438 6 TX20 := ⟨RX20, 12, tyX20, cf_X20, by decide, rfl, rfl, rfl⟩
theorem fd_2439 : FD 0 19 2439 7 TX20 := ⟨RX20, 12, tyX20, cf_X20, by decide, rfl, rfl, rfl⟩
theorem fd_2440 : FD 2 19 2440 8 TX20 := ⟨RX20, 12, tyX20, cf_X20, by decide, rfl, rfl, rfl⟩
theorem fd_2441 : FD 0 19 2441 9 TX20 := ⟨RX20, 12, tyX20, cf_X20, by decide, rfl, rfl, rfl⟩
theorem fd_2442 : FD 1 19 2442 10 TX20 := ⟨RX20, 12, tyX20, cf_X20, by decide, rfl, rfl, rfl⟩
theorem fd_2443 : FD 1 19 2443 11 TX20 := ⟨RX20, 12, tyX20, cf_X20, by decide, rfl, rfl, rfl⟩
theorem fd_2560 : FD 2 20 2560 0 TX21 := ⟨RX21, 6, tyX21, cf_X21, by decide, rfl, rfl, rfl⟩
theorem fd_2561 : FD 2 20 2561 1 TX21 := ⟨RX21, 6, tyX21, cf_X21, by decide, rfl, rfl, rfl⟩
theorem fd_2562 : FD 0 20 2562 2 TX21 := ⟨RX21, 6, tyX21, cf_X21, by decide, rfl, rfl, rfl⟩
theorem fd_2563 : FD 2 20 2563 3 TX21 := ⟨RX21, 6, tyX21, cf_X21, by decide, rfl, rfl, rfl⟩
theorem fd_2564 : FD 2 20 2564 4 TX21 := ⟨RX21, 6, tyX21, cf_X21, by decide, rfl, rfl, rfl⟩
theorem fd_2565 : FD 0 20 2565 5 TX21 := ⟨RX21, 6, tyX21, cf_X21, by decide, rfl, rfl, rfl⟩
theorem fd_2688 : FD 3 21 2688 0 TX22 := ⟨RX22, 27, tyX22, cf_X22, by decide, rfl, rfl, rfl⟩
theorem fd_2689 : FD 1 21 2689 1 TX22 := ⟨RX22, 27, tyX22, cf_X22, by decide, rfl, rfl, rfl⟩
theorem fd_2690 : FD 1 21 2690 2 TX22 := ⟨RX22, 27, tyX22, cf_X22, by decide, rfl, rfl, rfl⟩
theorem fd_2691 : FD 0 21 2691 3 TX22 := ⟨RX22, 27, tyX22, cf_X22, by decide, rfl, rfl, rfl⟩
theorem fd_2692 : FD 0 21 2692 4 TX22 := ⟨RX22, 27, tyX22, cf_X22, by decide, rfl, rfl, rfl⟩
theorem fd_2693 : FD 0 21 2693 5 TX22 := ⟨RX22, 27, tyX22, cf_X22, by decide, rfl, rfl, rfl⟩
theorem fd_2694 : FD 2 21 2694 6 TX22 := ⟨RX22, 27, tyX22, cf_X22, by decide, rfl, rfl, rfl⟩
theorem fd_2695 : FD 2 21 2695 7 TX22 := ⟨RX22, 27, tyX22, cf_X22, by decide, rfl, rfl, rfl⟩
theorem fd_2696 : FD 2 21 2696 8 TX22 := ⟨RX22, 27, tyX22, cf_X22, by decide, rfl, rfl, rfl⟩
theorem fd_2697 : FD 0 21 2697 9 TX22 := ⟨RX22, 27, tyX22, cf_X22, by decide, rfl, rfl, rfl⟩
theorem fd_2698 : FD 2 21 2698 10 TX22 := ⟨RX22, 27, tyX22, cf_X22, by decide, rfl, rfl, rfl⟩
theorem fd_2699 : FD 0 21 2699 11 TX22 := ⟨RX22, 27, tyX22, cf_X22, by decide, rfl, rfl, rfl⟩
theorem fd_2700 : FD 0 21 2700 12 TX22 := ⟨RX22, 27, tyX22, cf_X22, by decide, rfl, rfl, rfl⟩
theorem fd_2701 : FD 3 21 2701 13 TX22 := ⟨RX22, 27, tyX22, cf_X22, by decide, rfl, rfl, rfl⟩
theorem fd_2702 : FD 0 21 2702 14 TX22 := ⟨RX22, 27, tyX22, cf_X22, by decide, rfl, rfl, rfl⟩
theorem fd_2703 : FD 0 21 2703 15 TX22 := ⟨RX22, 27, tyX22, cf_X22, by decide, rfl, rfl, rfl⟩
theorem fd_2704 : FD 0 21 2704 16 TX22 := ⟨RX22, 27, tyX22, cf_X22, by decide, rfl, rfl, rfl⟩
theorem fd_2705 : FD 2 21 2705 17 TX22 := ⟨RX22, 27, tyX22, cf_X22, by decide, rfl, rfl, rfl⟩
theorem fd_2706 : FD 2 21 2706 18 TX22 := ⟨RX22, 27, tyX22, cf_X22, by decide, rfl, rfl, rfl⟩
theorem fd_2707 : FD 0 21 2707 19 TX22 := ⟨RX22, 27, tyX22, cf_X22, by decide, rfl, rfl, rfl⟩
theorem fd_2708 : FD 1 21 2708 20 TX22 := ⟨RX22, 27, tyX22, cf_X22, by decide, rfl, rfl, rfl⟩
theorem fd_2709 : FD 0 21 2709 21 TX22 := ⟨RX22, 27, tyX22, cf_X22, by decide, rfl, rfl, rfl⟩
theorem fd_2710 : FD 0 21 2710 22 TX22 := ⟨RX22, 27, tyX22, cf_X22, by decide, rfl, rfl, rfl⟩
theorem fd_2711 : FD 2 21 2711 23 TX22 := ⟨RX22, 27, tyX22, cf_X22, by decide, rfl, rfl, rfl⟩
theorem fd_2712 : FD 2 21 2712 24 TX22 := ⟨RX22, 27, tyX22, cf_X22, by decide, rfl, rfl, rfl⟩
theorem fd_2713 : FD 2 21 2713 25 TX22 := ⟨RX22, 27, tyX22, cf_X22, by decide, rfl, rfl, rfl⟩
theorem fd_2714 : FD 0 21 2714 26 TX22 := ⟨RX22, 27, tyX22, cf_X22, by decide, rfl, rfl, rfl⟩
theorem fd_2816 : FD 2 22 2816 0 TX23 := ⟨RX23, 78, tyX23, cf_X23, by decide, rfl, rfl, rfl⟩
theorem fd_2817 : FD 2 22 2817 1 TX23 := ⟨RX23, 78, tyX23, cf_X23, by decide, rfl, rfl, rfl⟩
theorem fd_2818 : FD 2 22 2818 2 TX23 := ⟨RX23, 78, tyX23, cf_X23, by decide, rfl, rfl, rfl⟩
theorem fd_2819 : FD 0 22 2819 3 TX23 := ⟨RX23, 78, tyX23, cf_X23, by decide, rfl, rfl, rfl⟩
theorem fd_2820 : FD 2 22 2820 4 TX23 := ⟨RX23, 78, tyX23, cf_X23, by decide, rfl, rfl, rfl⟩
theorem fd_2821 : FD 0 22 2821 5 TX23 := ⟨RX23, 78, tyX23, cf_X23, by decide, rfl, rfl, rfl⟩
theorem fd_2822 : FD 2 22 2822 6 TX23 := ⟨RX23, 78, tyX23, cf_X23, by decide, rfl, rfl, rfl⟩
theorem fd_2823 : FD 2 22 2823 7 TX23 := ⟨RX23, 78, tyX23, cf_X23, by decide, rfl, rfl, rfl⟩
theorem fd_2824 : FD 2 22 2824 8 TX23 := ⟨RX23, 78, tyX23, cf_X23, by decide, rfl, rfl, rfl⟩
theorem fd_2825 : FD 0 22 2825 9 TX23 := ⟨RX23, 78, tyX23, cf_X23, by decide, rfl, rfl, rfl⟩
theorem fd_2826 : FD 2 22 2826 10 TX23 := ⟨RX23, 78, tyX23, cf_X23, by decide, rfl, rfl, rfl⟩
theorem fd_2827 : FD 2 22 2827 11 TX23 := ⟨RX23, 78, tyX23, cf_X23, by decide, rfl, rfl, rfl⟩
theorem fd_2828 : FD 2 22 2828 12 TX23 := ⟨RX23, 78, tyX23, cf_X23, by decide, rfl, rfl, rfl⟩
theorem fd_2829 : FD 2 22 2829 13 TX23 := ⟨RX23, 78, tyX23, cf_X23, by decide, rfl, rfl, rfl⟩
theorem fd_2830 : FD 0 22 2830 14 TX23 := ⟨RX23, 78, tyX23, cf_X23, by decide, rfl, rfl, rfl⟩
theorem fd_2831 : FD 2 22 2831 15 TX23 := ⟨RX23, 78, tyX23, cf_X23, by decide, rfl, rfl, rfl⟩
theorem fd_2832 : FD 2 22 2832 16 TX23 := ⟨RX23, 78, tyX23, cf_X23, by decide, rfl, rfl, rfl⟩
theorem fd_2833 : FD 2 22 2833 17 TX23 := ⟨RX23, 78, tyX23, cf_X23, by decide, rfl, rfl, rfl⟩
theorem fd_2834 : FD 2 22 2834 18 TX23 := ⟨RX23, 78, tyX23, cf_X23, by decide, rfl, rfl, rfl⟩
theorem fd_2835 : FD 2 22 2835 19 TX23 := ⟨RX23, 78, tyX23, cf_X23, by decide, rfl, rfl, rfl⟩
theorem fd_2836 : FD 1 22 2836 20 TX23 := ⟨RX23, 78, tyX23, cf_X23, by decide, rfl, rfl, rfl⟩
theorem fd_2837 : FD 1 22 2837 21 TX23 := ⟨RX23, 78, tyX23, cf_X23, by decide, rfl, rfl, rfl⟩
theorem fd_2838 : FD 0 22 2838 22 TX23 := ⟨RX23, 78, tyX23, cf_X23, by decide, rfl, rfl, rfl⟩
theorem fd_2839 : FD 0 22 2839 23 TX23 := ⟨RX23, 78, tyX23, cf_X23, by decide, rfl, rfl, rfl⟩
theorem fd_2840 : FD 1 22 2840 24 TX23 := ⟨RX23, 78, tyX23, cf_X23, by decide, rfl, rfl, rfl⟩
theorem fd_2841 : FD 0 22 2841 25 TX23 := ⟨RX23, 78, tyX23, cf_X23, by decide, rfl, rfl, rfl⟩
theorem fd_2842 : FD 0 22 2842 26 TX23 := ⟨RX23, 78, tyX23, cf_X23, by decide, rfl, rfl, rfl⟩
theorem fd_2843 : FD 0 22 2843 27 TX23 := ⟨RX23, 78, tyX23, cf_X23, by decide, rfl, rfl, rfl⟩
theorem fd_2844 : FD 1 22 2844 28 TX23 := ⟨RX23, 78, tyX23, cf_X23, by decide, rfl, rfl, rfl⟩
theorem fd_2845 : FD 0 22 2845 29 TX23 := ⟨RX23, 78, tyX23, cf_X23, by decide, rfl, rfl, rfl⟩
theorem fd_2846 : FD 2 22 2846 30 TX23 := ⟨RX23, 78, tyX23, cf_X23, by decide, rfl, rfl, rfl⟩
theorem fd_2847 : FD 2 22 2847 31 TX23 := ⟨RX23, 78, tyX23, cf_X23, by decide, rfl, rfl, rfl⟩
theorem fd_2848 : FD 2 22 2848 32 TX23 := ⟨RX23, 78, tyX23, cf_X23, by decide, rfl, rfl, rfl⟩
theorem fd_2849 : FD 2 22 2849 33 TX23 := ⟨RX23, 78, tyX23, cf_X23, by decide, rfl, rfl, rfl⟩
theorem fd_2850 : FD 2 22 2850 34 TX23 := ⟨RX23, 78, tyX23, cf_X23, by decide, rfl, rfl, rfl⟩
theorem fd_2851 : FD 2 22 2851 35 TX23 := ⟨RX23, 78, tyX23, cf_X23, by decide, rfl, rfl, rfl⟩
theorem fd_2852 : FD 0 22 2852 36 TX23 := ⟨RX23, 78, tyX23, cf_X23, by decide, rfl, rfl, rfl⟩
theorem fd_2853 : FD 2 22 2853 37 TX23 := ⟨RX23, 78, tyX23, cf_X23, by decide, rfl, rfl, rfl⟩
theorem fd_2854 : FD 2 22 2854 38 TX23 := ⟨RX23, 78, tyX23, cf_X23, by decide, rfl, rfl, rfl⟩
theorem fd_2855 : FD 2 22 2855 39 TX23 := ⟨RX23, 78, tyX23, cf_X23, by decide, rfl, rfl, rfl⟩
theorem fd_2856 : FD 2 22 2856 40 TX23 := ⟨RX23, 78, tyX23, cf_X23, by decide, rfl, rfl, rfl⟩
theorem fd_2857 : FD 2 22 2857 41 TX23 := ⟨RX23, 78, tyX23, cf_X23, by decide, rfl, rfl, rfl⟩
theorem fd_2858 : FD 2 22 2858 42 TX23 := ⟨RX23, 78, tyX23, cf_X23, by decide, rfl, rfl, rfl⟩
theorem fd_2859 : FD 2 22 2859 43 TX23 := ⟨RX23, 78, tyX23, cf_X23, by decide, rfl, rfl, rfl⟩
theorem fd_2860 : FD 2 22 2860 44 TX23 := ⟨RX23, 78, tyX23, cf_X23, by decide, rfl, rfl, rfl⟩
theorem fd_2861 : FD 0 22 2861 45 TX23 := ⟨RX23, 78, tyX23, cf_X23, by decide, rfl, rfl, rfl⟩
theorem fd_2862 : FD 0 22 2862 46 TX23 := ⟨RX23, 78, tyX23, cf_X23, by decide, rfl, rfl, rfl⟩
theorem fd_2863 : FD 3 22 2863 47 TX23 := ⟨RX23, 78, tyX23, cf_X23, by decide, rfl, rfl, rfl⟩
theorem fd_2864 : FD 2 22 2864 48 TX23 := ⟨RX23, 78, tyX23, cf_X23, by decide, rfl, rfl, rfl⟩
theorem fd_2865 : FD 2 22 2865 49 TX23 := ⟨RX23, 78, tyX23, cf_X23, by decide, rfl, rfl, rfl⟩
theorem fd_2866 : FD 0 22 2866 50 TX23 := ⟨RX23, 78, tyX23, cf_X23, by decide, rfl, rfl, rfl⟩
theorem fd_2867 : FD 0 22 2867 51 TX23 := ⟨RX23, 78, tyX23, cf_X23, by decide, rfl, rfl, rfl⟩
theorem fd_2868 : FD 0 22 2868 52 TX23 := ⟨RX23, 78, tyX23, cf_X23, by decide, rfl, rfl, rfl⟩
theorem fd_2869 : FD 0 22 2869 53 TX23 := ⟨RX23, 78, tyX23, cf_X23, by decide, rfl, rfl, rfl⟩
theorem fd_2870 : FD 2 22 2870 54 TX23 := ⟨RX23, 78, tyX23, cf_X23, by decide, rfl, rfl, rfl⟩
theorem fd_2871 : FD 2 22 2871 55 TX23 := ⟨RX23, 78, tyX23, cf_X23, by decide, rfl, rfl, rfl⟩
theorem fd_2872 : FD 2 22 2872 56 TX23 := ⟨RX23, 78, tyX23, cf_X23, by decide, rfl, rfl, rfl⟩
theorem fd_2873 : FD 2 22 2873 57 TX23 := ⟨RX23, 78, tyX23, cf_X23, by decide, rfl, rfl, rfl⟩
theorem fd_2874 : FD 2 22 2874 58 TX23 := ⟨RX23, 78, tyX23, cf_X23, by decide, rfl, rfl, rfl⟩
theorem fd_2875 : FD 2 22 2875 59 TX23 := ⟨RX23, 78, tyX23, cf_X23, by decide, rfl, rfl, rfl⟩
theorem fd_2876 : FD 2 22 2876 60 TX23 := ⟨RX23, 78, tyX23, cf_X23, by decide, rfl, rfl, rfl⟩
theorem fd_2877 : FD 2 22 2877 61 TX23 := ⟨RX23, 78, tyX23, cf_X23, by decide, rfl, rfl, rfl⟩
theorem fd_2878 : FD 2 22 2878 62 TX23 := ⟨RX23, 78, tyX23, cf_X23, by decide, rfl, rfl, rfl⟩
theorem fd_2879 : FD 2 22 2879 63 TX23 := ⟨RX23, 78, tyX23, cf_X23, by decide, rfl, rfl, rfl⟩
theorem fd_2880 : FD 2 22 2880 64 TX23 := ⟨RX23, 78, tyX23, cf_X23, by decide, rfl, rfl, rfl⟩
theorem fd_2881 : FD 2 22 2881 65 TX23 := ⟨RX23, 78, tyX23, cf_X23, by decide, rfl, rfl, rfl⟩
theorem fd_2882 : FD 2 22 2882 66 TX23 := ⟨RX23, 78, tyX23, cf_X23, by decide, rfl, rfl, rfl⟩
theorem fd_2883 : FD 2 22 2883 67 TX23 := ⟨RX23, 78, tyX23, cf_X23, by decide, rfl, rfl, rfl⟩
theorem fd_2884 : FD 2 22 2884 68 TX23 := ⟨RX23, 78, tyX23, cf_X23, by decide, rfl, rfl, rfl⟩
theorem fd_2885 : FD 2 22 2885 69 TX23 := ⟨RX23, 78, tyX23, cf_X23, by decide, rfl, rfl, rfl⟩
theorem fd_2886 : FD 2 22 2886 70 TX23 := ⟨RX23, 78, tyX23, cf_X23, by decide, rfl, rfl, rfl⟩
theorem fd_2887 : FD 2 22 2887 71 TX23 := ⟨RX23, 78, tyX23, cf_X23, by decide, rfl, rfl, rfl⟩
theorem fd_2888 : FD 2 22 2888 72 TX23 := ⟨RX23, 78, tyX23, cf_X23, by decide, rfl, rfl, rfl⟩
theorem fd_2889 : FD 2 22 2889 73 TX23 := ⟨RX23, 78, tyX23, cf_X23, by decide, rfl, rfl, rfl⟩
theorem fd_2890 : FD 2 22 2890 74 TX23 := ⟨RX23, 78, tyX23, cf_X23, by decide, rfl, rfl, rfl⟩
theorem fd_2891 : FD 0 22 2891 75 TX23 := ⟨RX23, 78, tyX23, cf_X23, by decide, rfl, rfl, rfl⟩
theorem fd_2892 : FD 2 22 2892 76 TX23 := ⟨RX23, 78, tyX23, cf_X23, by decide, rfl, rfl, rfl⟩
theorem fd_2893 : FD 2 22 2893 77 TX23 := ⟨RX23, 78, tyX23, cf_X23, by decide, rfl, rfl, rfl⟩
theorem fd_2944 : FD 2 23 2944 0 TX24 := ⟨RX24, 6, tyX24, cf_X24, by decide, rfl, rfl, rfl⟩
theorem fd_2945 : FD 2 23 2945 1 TX24 := ⟨RX24, 6, tyX24, cf_X24, by decide, rfl, rfl, rfl⟩
theorem fd_2946 : FD 2 23 2946 2 TX24 := ⟨RX24, 6, tyX24, cf_X24, by decide, rfl, rfl, rfl⟩
theorem fd_2947 : FD 2 23 2947 3 TX24 := ⟨RX24, 6, tyX24, cf_X24, by decide, rfl, rfl, rfl⟩
theorem fd_2948 : FD 2 23 2948 4 TX24 := ⟨RX24, 6, tyX24, cf_X24, by decide, rfl, rfl, rfl⟩
theorem fd_2949 : FD 0 23 2949 5 TX24 := ⟨RX24, 6, tyX24, cf_X24, by decide, rfl, rfl, rfl⟩
theorem fd_3072 : FD 2 24 3072 0 TX25 := ⟨RX25, 22, tyX25, cf_X25, by decide, rfl, rfl, rfl⟩
theorem fd_3073 : FD 0 24 3073 1 TX25 := ⟨RX25, 22, tyX25, cf_X25, by decide, rfl, rfl, rfl⟩
theorem fd_3074 : FD 0 24 3074 2 TX25 := ⟨RX25, 22, tyX25, cf_X25, by decide, rfl, rfl, rfl⟩
theorem fd_3075 : FD 2 24 3075 3 TX25 := ⟨RX25, 22, tyX25, cf_X25, by decide, rfl, rfl, rfl⟩
theorem fd_3076 : FD 0 24 3076 4 TX25 := ⟨RX25, 22, tyX25, cf_X25, by decide, rfl, rfl, rfl⟩
theorem fd_3077 : FD 0 24 3077 5 TX25 := ⟨RX25, 22, tyX25, cf_X25, by decide, rfl, rfl, rfl⟩
theorem fd_3078 : FD 2 24 3078 6 TX25 := ⟨RX25, 22, tyX25, cf_X25, by decide, rfl, rfl, rfl⟩
theorem fd_3079 : FD 2 24 3079 7 TX25 := ⟨RX25, 22, tyX25, cf_X25, by decide, rfl, rfl, rfl⟩
theorem fd_3080 : FD 2 24 3080 8 TX25 := ⟨RX25, 22, tyX25, cf_X25, by decide, rfl, rfl, rfl⟩
theorem fd_3081 : FD 2 24 3081 9 TX25 := ⟨RX25, 22, tyX25, cf_X25, by decide, rfl, rfl, rfl⟩
theorem fd_3082 : FD 2 24 3082 10 TX25 := ⟨RX25, 22, tyX25, cf_X25, by decide, rfl, rfl, rfl⟩
theorem fd_3083 : FD 2 24 3083 11 TX25 := ⟨RX25, 22, tyX25, cf_X25, by decide, rfl, rfl, rfl⟩
theorem fd_3084 : FD 2 24 3084 12 TX25 := ⟨RX25, 22, tyX25, cf_X25, by decide, rfl, rfl, rfl⟩
theorem fd_3085 : FD 2 24 3085 13 TX25 := ⟨RX25, 22, tyX25, cf_X25, by decide, rfl, rfl, rfl⟩
theorem fd_3086 : FD 0 24 3086 14 TX25 := ⟨RX25, 22, tyX25, cf_X25, by decide, rfl, rfl, rfl⟩
theorem fd_3087 : FD 2 24 3087 15 TX25 := ⟨RX25, 22, tyX25, cf_X25, by decide, rfl, rfl, rfl⟩
theorem fd_3088 : FD 2 24 3088 16 TX25 := ⟨RX25, 22, tyX25, cf_X25, by decide, rfl, rfl, rfl⟩
theorem fd_3089 : FD 2 24 3089 17 TX25 := ⟨RX25, 22, tyX25, cf_X25, by decide, rfl, rfl, rfl⟩
theorem fd_3090 : FD 0 24 3090 18 TX25 := ⟨RX25, 22, tyX25, cf_X25, by decide, rfl, rfl, rfl⟩
theorem fd_3091 : FD 1 24 3091 19 TX25 := ⟨RX25, 22, tyX25, cf_X25, by decide, rfl, rfl, rfl⟩
theorem fd_3092 : FD 1 24 3092 20 TX25 := ⟨RX25, 22, tyX25, cf_X25, by decide, rfl, rfl, rfl⟩
theorem fd_3093 : FD 3 24 3093 21 TX25 := ⟨RX25, 22, tyX25, cf_X25, by decide, rfl, rfl, rfl⟩
theorem fd_3200 : FD 2 25 3200 0 TX26 := ⟨RX26, 5, tyX26, cf_X26, by decide, rfl, rfl, rfl⟩
theorem fd_3201 : FD 2 25 3201 1 TX26 := ⟨RX26, 5, tyX26, cf_X26, by decide, rfl, rfl, rfl⟩
theorem fd_3202 : FD 2 25 3202 2 TX26 := ⟨RX26, 5, tyX26, cf_X26, by decide, rfl, rfl, rfl⟩
theorem fd_3203 : FD 1 25 3203 3 TX26 := ⟨RX26, 5, tyX26, cf_X26, by decide, rfl, rfl, rfl⟩
theorem fd_3204 : FD 1 25 3204 4 TX26 := ⟨RX26, 5, tyX26, cf_X26, by decide, rfl, rfl, rfl⟩
theorem fd_3328 : FD 2 26 3328 0 TX27 := ⟨RX27, 4, tyX27, cf_X27, by decide, rfl, rfl, rfl⟩
theorem fd_3329 : FD 0 26 3329 1 TX27 := ⟨RX27, 4, tyX27, cf_X27, by decide, rfl, rfl, rfl⟩
theorem fd_3330 : FD 2 26 3330 2 TX27 := ⟨RX27, 4, tyX27, cf_X27, by decide, rfl, rfl, rfl⟩
theorem fd_3331 : FD 2 26 3331 3 TX27 := ⟨RX27, 4, tyX27, cf_X27, by decide, rfl, rfl, rfl⟩
theorem fd_3456 : FD 2 27 3456 0 TX28 := ⟨RX28, 11, tyX28, cf_X28, by decide, rfl, rfl, rfl⟩
theorem fd_3457 : FD 2 27 3457 1 TX28 := ⟨RX28, 11, tyX28, cf_X28, by decide, rfl, rfl, rfl⟩
theorem fd_3458 : FD 2 27 3458 2 TX28 := ⟨RX28, 11, tyX28, cf_X28, by decide, rfl, rfl, rfl⟩
theorem fd_3459 : FD 2 27 3459 3 TX28 := ⟨RX28, 11, tyX28, cf_X28, by decide, rfl, rfl, rfl⟩
theorem fd_3460 : FD 2 27 3460 4 TX28 := ⟨RX28, 11, tyX28, cf_X28, by decide, rfl, rfl, rfl⟩
theorem fd_3461 : FD 0 27 3461 5 TX28 := ⟨RX28, 11, tyX28, cf_X28, by decide, rfl, rfl, rfl⟩
theorem fd_3462 : FD 2 27 3462 6 TX28 := ⟨RX28, 11, tyX28, cf_X28, by decide, rfl, rfl, rfl⟩
theorem fd_3463 : FD 2 27 3463 7 TX28 := ⟨RX28, 11, tyX28, cf_X28, by decide, rfl, rfl, rfl⟩
theorem fd_3464 : FD 2 27 3464 8 TX28 := ⟨RX28, 11, tyX28, cf_X28, by decide, rfl, rfl, rfl⟩
theorem fd_3465 : FD 0 27 3465 9 TX28 := ⟨RX28, 11, tyX28, cf_X28, by decide, rfl, rfl, rfl⟩
theorem fd_3466 : FD 2 27 3466 10 TX28 := ⟨RX28, 11, tyX28, cf_X28, by decide, rfl, rfl, rfl⟩
theorem fd_3584 : FD 2 28 3584 0 TX29 := ⟨RX29, 18, tyX29, cf_X29, by decide, rfl, rfl, rfl⟩
theorem fd_3585 : FD 0 28 3585 1 TX29 := ⟨RX29, 18, tyX29, cf_X29, by decide, rfl, rfl, rfl⟩
theorem fd_3586 : FD 0 28 3586 2 TX29 := ⟨RX29, 18, tyX29, cf_X29, by decide, rfl, rfl, rfl⟩
theorem fd_3587 : FD 0 28 3587 3 TX29 := ⟨RX29, 18, tyX29, cf_X29, by decide, rfl, rfl, rfl⟩
theorem fd_3588 : FD 0 28 3588 4 TX29 := ⟨RX29, 18, tyX29, cf_X29, by decide, rfl, rfl, rfl⟩
theorem fd_3589 : FD 0 28 3589 5 TX29 := ⟨RX29, 18, tyX29, cf_X29, by decide, rfl, rfl, rfl⟩
theorem fd_3590 : FD 0 28 3590 6 TX29 := ⟨RX29, 18, tyX29, cf_X29, by decide, rfl, rfl, rfl⟩
theorem fd_3591 : FD 0 28 3591 7 TX29 := ⟨RX29, 18, tyX29, cf_X29, by decide, rfl, rfl, rfl⟩
theorem fd_3592 : FD 0 28 3592 8 TX29 := ⟨RX29, 18, tyX29, cf_X29, by decide, rfl, rfl, rfl⟩
theorem fd_3593 : FD 0 28 3593 9 TX29 := ⟨RX29, 18, tyX29, cf_X29, by decide, rfl, rfl, rfl⟩
theorem fd_3594 : FD 0 28 3594 10 TX29 := ⟨RX29, 18, tyX29, cf_X29, by decide, rfl, rfl, rfl⟩
theorem fd_3595 : FD 2 28 3595 11 TX29 := ⟨RX29, 18, tyX29, cf_X29, by decide, rfl, rfl, rfl⟩
theorem fd_3596 : FD 2 28 3596 12 TX29 := ⟨RX29, 18, tyX29, cf_X29, by decide, rfl, rfl, rfl⟩
theorem fd_3597 : FD 2 28 3597 13 TX29 := ⟨RX29, 18, tyX29, cf_X29, by decide, rfl, rfl, rfl⟩
theorem fd_3598 : FD 2 28 3598 14 TX29 := ⟨RX29, 18, tyX29, cf_X29, by decide, rfl, rfl, rfl⟩
theorem fd_3599 : FD 2 28 3599 15 TX29 := ⟨RX29, 18, tyX29, cf_X29, by decide, rfl, rfl, rfl⟩
theorem fd_3600 : FD 2 28 3600 16 TX29 := ⟨RX29, 18, tyX29, cf_X29, by decide, rfl, rfl, rfl⟩
theorem fd_3601 : FD 2 28 3601 17 TX29 := ⟨RX29, 18, tyX29, cf_X29, by decide, rfl, rfl, rfl⟩
theorem fd_3712 : FD 0 29 3712 0 TX30 := ⟨RX30, 7, tyX30, cf_X30, by decide, rfl, rfl, rfl⟩
theorem fd_3713 : FD 1 29 3713 1 TX30 := ⟨RX30, 7, tyX30, cf_X30, by decide, rfl, rfl, rfl⟩
theorem fd_3714 : FD 1 29 3714 2 TX30 := ⟨RX30, 7, tyX30, cf_X30, by decide, rfl, rfl, rfl⟩
theorem fd_3715 : FD 2 29 3715 3 TX30 := ⟨RX30, 7, tyX30, cf_X30, by decide, rfl, rfl, rfl⟩
theorem fd_3716 : FD 2 29 3716 4 TX30 := ⟨RX30, 7, tyX30, cf_X30, by decide, rfl, rfl, rfl⟩
theorem fd_3717 : FD 0 29 3717 5 TX30 := ⟨RX30, 7, tyX30, cf_X30, by decide, rfl, rfl, rfl⟩
theorem fd_3718 : FD 2 29 3718 6 TX30 := ⟨RX30, 7, tyX30, cf_X30, by decide, rfl, rfl, rfl⟩
theorem fd_3840 : FD 2 30 3840 0 TJ3 := ⟨RJ3, 6, tyJ3, cf_J3, by decide, rfl, rfl, rfl⟩
theorem fd_3841 : FD 2 30 3841 1 TJ3 := ⟨RJ3, 6, tyJ3, cf_J3, by decide, rfl, rfl, rfl⟩
theorem fd_3842 : FD 2 30 3842 2 TJ3 := ⟨RJ3, 6, tyJ3, cf_J3, by decide, rfl, rfl, rfl⟩
theorem fd_3843 : FD 2 30 3843 3 TJ3 := ⟨RJ3, 6, tyJ3, cf_J3, by decide, rfl, rfl, rfl⟩
theorem fd_3844 : FD 2 30 3844 4 TJ3 := ⟨RJ3, 6, tyJ3, cf_J3, by decide, rfl, rfl, rfl⟩
theorem fd_3845 : FD 0 30 3845 5 TJ3 := ⟨RJ3, 6, tyJ3, cf_J3, by decide, rfl, rfl, rfl⟩
theorem fd_3968 : FD 2 31 3968 0 TJ4 := ⟨RJ4, 6, tyJ4, cf_J4, by decide, rfl, rfl, rfl⟩
theorem fd_3969 : FD 2 31 3969 1 TJ4 := ⟨RJ4, 6, tyJ4, cf_J4, by decide, rfl, rfl, rfl⟩
theorem fd_3970 : FD 2 31 3970 2 TJ4 := ⟨RJ4, 6, tyJ4, cf_J4, by decide, rfl, rfl, rfl⟩
theorem fd_3971 : FD 2 31 3971 3 TJ4 := ⟨RJ4, 6, tyJ4, cf_J4, by decide, rfl, rfl, rfl⟩
theorem fd_3972 : FD 2 31 3972 4 TJ4 := ⟨RJ4, 6, tyJ4, cf_J4, by decide, rfl, rfl, rfl⟩
theorem fd_3973 : FD 0 31 3973 5 TJ4 := ⟨RJ4, 6, tyJ4, cf_J4, by decide, rfl, rfl, rfl⟩
theorem lk_X1_46 (E : Et) (e : E.y.cls = RX1) : LK E 46 TX1 0 := by
  unfold LK; rw [e]; exact Or.inl q1306
theorem lk_X1_57 (E : Et) (e : E.y.cls = RX1) : LK E 57 TX1 1 := by
  unfold LK; rw [e]; exact Or.inl q1307
theorem lk_X1_64 (E : Et) (e : E.y.cls = RX1) : LK E 64 TX1 2 := by
  unfold LK; rw [e]; exact Or.inl q1308
theorem lk_X1_70 (E : Et) (e : E.y.cls = RX1) : LK E 70 TX1 3 := by
  unfold LK; rw [e]; exact Or.inl q1309
theorem lk_X1_74 (E : Et) (e : E.y.cls = RX1) : LK E 74 TX1 8 := by
  unfold LK; rw [e]; exact Or.inl q1314
theorem lk_X1_81 (E : Et) (e : E.y.cls = RX1) : LK E 81 TX1 13 := by
  unfold LK; rw [e]; exact Or.inl q1319
theorem lk_X1_88 (E : Et) (e : E.y.cls = RX1) : LK E 88 TX1 14 := by
  unfold LK; rw [e]; exact Or.inl q1320
theorem lk_X1_92 (E : Et) (e : E.y.cls = RX1) : LK E 92 TX1 15 := by
  unfold LK; rw [e]; exact Or.inl q1321
theorem lk_X1_98 (E : Et) (e : E.y.cls = RX1) : LK E 98 TX1 19 := by
  unfold LK; rw [e]; exact Or.inl q1325
theorem lk_X1_102 (E : Et) (e : E.y.cls = RX1) : LK E 102 TX1 21 := by
  unfold LK; rw [e]; exact Or.inl q1327
theorem lk_X1_112 (E : Et) (e : E.y.cls = RX1) : LK E 112 TX1 23 := by
  unfold LK; rw [e]; exact Or.inl q1329
theorem lk_X1_118 (E : Et) (e : E.y.cls = RX1) : LK E 118 TX1 27 := by
  unfold LK; rw [e]; exact Or.inl q1333
theorem lk_X1_122 (E : Et) (e : E.y.cls = RX1) : LK E 122 TX1 31 := by
  unfold LK; rw [e]; exact Or.inl q1337
theorem lk_X1_126 (E : Et) (e : E.y.cls = RX1) : LK E 126 TX1 33 := by
  unfold LK; rw [e]; exact Or.inl q1339
theorem lk_X1_141 (E : Et) (e : E.y.cls = RX1) : LK E 141 TX1 7 := by
  unfold LK; rw [e]; exact Or.inl q1313
theorem lk_X1_150 (E : Et) (e : E.y.cls = RX1) : LK E 150 TX12 0 := by
  unfold LK; rw [e]; exact Or.inr ⟨_, List.mem_filter.mpr ⟨q706, rfl⟩⟩
theorem lk_X1_151 (E : Et) (e : E.y.cls = RX1) : LK E 151 TX12 1 := by
  unfold LK; rw [e]; exact Or.inr ⟨_, List.mem_filter.mpr ⟨q707, rfl⟩⟩
theorem lk_X1_155 (E : Et) (e : E.y.cls = RX1) : LK E 155 TX2 0 := by
  unfold LK; rw [e]; exact Or.inr ⟨_, List.mem_filter.mpr ⟨q538, rfl⟩⟩
theorem lk_X1_163 (E : Et) (e : E.y.cls = RX1) : LK E 163 TX2 3 := by
  unfold LK; rw [e]; exact Or.inr ⟨_, List.mem_filter.mpr ⟨q543, rfl⟩⟩
theorem lk_X1_166 (E : Et) (e : E.y.cls = RX1) : LK E 166 TX1 24 := by
  unfold LK; rw [e]; exact Or.inl q1330
theorem lk_X1_169 (E : Et) (e : E.y.cls = RX1) : LK E 169 TX1 25 := by
  unfold LK; rw [e]; exact Or.inl q1331
theorem lk_X1_177 (E : Et) (e : E.y.cls = RX1) : LK E 177 TX1 26 := by
  unfold LK; rw [e]; exact Or.inl q1332
theorem lk_X1_181 (E : Et) (e : E.y.cls = RX1) : LK E 181 TX20 7 := by
  unfold LK; rw [e]; exact Or.inr ⟨_, List.mem_filter.mpr ⟨q1025, rfl⟩⟩
theorem lk_X1_184 (E : Et) (e : E.y.cls = RX1) : LK E 184 TX20 1 := by
  unfold LK; rw [e]; exact Or.inr ⟨_, List.mem_filter.mpr ⟨q1017, rfl⟩⟩
theorem lk_X1_187 (E : Et) (e : E.y.cls = RX1) : LK E 187 TX22 3 := by
  unfold LK; rw [e]; exact Or.inr ⟨_, List.mem_filter.mpr ⟨q1068, rfl⟩⟩
theorem lk_X1_192 (E : Et) (e : E.y.cls = RX1) : LK E 192 TX1 5 := by
  unfold LK; rw [e]; exact Or.inl q1311
theorem lk_X1_195 (E : Et) (e : E.y.cls = RX1) : LK E 195 TX22 17 := by
  unfold LK; rw [e]; exact Or.inr ⟨_, List.mem_filter.mpr ⟨q1087, rfl⟩⟩
theorem lk_X1_202 (E : Et) (e : E.y.cls = RX1) : LK E 202 TX20 8 := by
  unfold LK; rw [e]; exact Or.inr ⟨_, List.mem_filter.mpr ⟨q1027, rfl⟩⟩
theorem lk_X1_205 (E : Et) (e : E.y.cls = RX1) : LK E 205 TX20 9 := by
  unfold LK; rw [e]; exact Or.inr ⟨_, List.mem_filter.mpr ⟨q1028, rfl⟩⟩
theorem lk_X1_216 (E : Et) (e : E.y.cls = RX1) : LK E 216 TX10 12 := by
  unfold LK; rw [e]; exact Or.inr ⟨_, List.mem_filter.mpr ⟨q582, rfl⟩⟩
theorem lk_X1_222 (E : Et) (e : E.y.cls = RX1) : LK E 222 TX9 0 := by
  unfold LK; rw [e]; exact Or.inr ⟨_, List.mem_filter.mpr ⟨q612, rfl⟩⟩
theorem lk_X1_226 (E : Et) (e : E.y.cls = RX1) : LK E 226 TX9 1 := by
  unfold LK; rw [e]; exact Or.inr ⟨_, List.mem_filter.mpr ⟨q615, rfl⟩⟩
theorem lk_X1_233 (E : Et) (e : E.y.cls = RX1) : LK E 233 TX10 8 := by
  unfold LK; rw [e]; exact Or.inr ⟨_, List.mem_filter.mpr ⟨q578, rfl⟩⟩
theorem lk_X1_236 (E : Et) (e : E.y.cls = RX1) : LK E 236 TX22 15 := by
  unfold LK; rw [e]; exact Or.inr ⟨_, List.mem_filter.mpr ⟨q1084, rfl⟩⟩
theorem lk_X1_239 (E : Et) (e : E.y.cls = RX1) : LK E 239 TX10 9 := by
  unfold LK; rw [e]; exact Or.inr ⟨_, List.mem_filter.mpr ⟨q579, rfl⟩⟩
theorem lk_X1_240 (E : Et) (e : E.y.cls = RX1) : LK E 240 TX10 3 := by
  unfold LK; rw [e]; exact Or.inr ⟨_, List.mem_filter.mpr ⟨q572, rfl⟩⟩
theorem lk_X1_243 (E : Et) (e : E.y.cls = RX1) : LK E 243 TX10 4 := by
  unfold LK; rw [e]; exact Or.inr ⟨_, List.mem_filter.mpr ⟨q573, rfl⟩⟩
theorem lk_X1_246 (E : Et) (e : E.y.cls = RX1) : LK E 246 TX10 5 := by
  unfold LK; rw [e]; exact Or.inr ⟨_, List.mem_filter.mpr ⟨q574, rfl⟩⟩
theorem lk_X1_249 (E : Et) (e : E.y.cls = RX1) : LK E 249 TX10 6 := by
  unfold LK; rw [e]; exact Or.inr ⟨_, List.mem_filter.mpr ⟨q575, rfl⟩⟩
theorem lk_X1_252 (E : Et) (e : E.y.cls = RX1) : LK E 252 TX10 7 := by
  unfold LK; rw [e]; exact Or.inr ⟨_, List.mem_filter.mpr ⟨q577, rfl⟩⟩
theorem lk_X1_260 (E : Et) (e : E.y.cls = RX1) : LK E 260 TX10 10 := by
  unfold LK; rw [e]; exact Or.inr ⟨_, List.mem_filter.mpr ⟨q580, rfl⟩⟩
theorem lk_X1_263 (E : Et) (e : E.y.cls = RX1) : LK E 263 TX10 11 := by
  unfold LK; rw [e]; exact Or.inr ⟨_, List.mem_filter.mpr ⟨q581, rfl⟩⟩
theorem lk_X1_270 (E : Et) (e : E.y.cls = RX1) : LK E 270 TX10 0 := by
  unfold LK; rw [e]; exact Or.inr ⟨_, List.mem_filter.mpr ⟨q567, rfl⟩⟩
theorem lk_X1_277 (E : Et) (e : E.y.cls = RX1) : LK E 277 TX22 1 := by
  unfold LK; rw [e]; exact Or.inr ⟨_, List.mem_filter.mpr ⟨q1066, rfl⟩⟩
theorem lk_X1_280 (E : Et) (e : E.y.cls = RX1) : LK E 280 TX22 2 := by
  unfold LK; rw [e]; exact Or.inr ⟨_, List.mem_filter.mpr ⟨q1067, rfl⟩⟩
theorem lk_X1_285 (E : Et) (e : E.y.cls = RX1) : LK E 285 TX20 10 := by
  unfold LK; rw [e]; exact Or.inr ⟨_, List.mem_filter.mpr ⟨q1029, rfl⟩⟩
theorem lk_X1_286 (E : Et) (e : E.y.cls = RX1) : LK E 286 TX20 11 := by
  unfold LK; rw [e]; exact Or.inr ⟨_, List.mem_filter.mpr ⟨q1030, rfl⟩⟩
theorem lk_X1_287 (E : Et) (e : E.y.cls = RX1) : LK E 287 TX22 0 := by
  unfold LK; rw [e]; exact Or.inr ⟨_, List.mem_filter.mpr ⟨q1065, rfl⟩⟩
theorem lk_X1_294 (E : Et) (e : E.y.cls = RX1) : LK E 294 TX22 4 := by
  unfold LK; rw [e]; exact Or.inr ⟨_, List.mem_filter.mpr ⟨q1069, rfl⟩⟩
theorem lk_X1_302 (E : Et) (e : E.y.cls = RX1) : LK E 302 TX22 5 := by
  unfold LK; rw [e]; exact Or.inr ⟨_, List.mem_filter.mpr ⟨q1070, rfl⟩⟩
theorem lk_X1_305 (E : Et) (e : E.y.cls = RX1) : LK E 305 TX3 8 := by
  unfold LK; rw [e]; exact Or.inr ⟨_, List.mem_filter.mpr ⟨q511, rfl⟩⟩
theorem lk_X1_310 (E : Et) (e : E.y.cls = RX1) : LK E 310 TX3 2 := by
  unfold LK; rw [e]; exact Or.inr ⟨_, List.mem_filter.mpr ⟨q491, rfl⟩⟩
theorem lk_X1_314 (E : Et) (e : E.y.cls = RX1) : LK E 314 TX8 0 := by
  unfold LK; rw [e]; exact Or.inr ⟨_, List.mem_filter.mpr ⟨q445, rfl⟩⟩
theorem lk_X1_321 (E : Et) (e : E.y.cls = RX1) : LK E 321 TX8 1 := by
  unfold LK; rw [e]; exact Or.inr ⟨_, List.mem_filter.mpr ⟨q449, rfl⟩⟩
theorem lk_X1_325 (E : Et) (e : E.y.cls = RX1) : LK E 325 TX5 1 := by
  unfold LK; rw [e]; exact Or.inr ⟨_, List.mem_filter.mpr ⟨q366, rfl⟩⟩
theorem lk_X1_328 (E : Et) (e : E.y.cls = RX1) : LK E 328 TX22 9 := by
  unfold LK; rw [e]; exact Or.inr ⟨_, List.mem_filter.mpr ⟨q1077, rfl⟩⟩
theorem lk_X1_331 (E : Et) (e : E.y.cls = RX1) : LK E 331 TX3 3 := by
  unfold LK; rw [e]; exact Or.inr ⟨_, List.mem_filter.mpr ⟨q496, rfl⟩⟩
theorem lk_X1_339 (E : Et) (e : E.y.cls = RX1) : LK E 339 TX22 6 := by
  unfold LK; rw [e]; exact Or.inr ⟨_, List.mem_filter.mpr ⟨q1072, rfl⟩⟩
theorem lk_X1_343 (E : Et) (e : E.y.cls = RX1) : LK E 343 TX8 2 := by
  unfold LK; rw [e]; exact Or.inr ⟨_, List.mem_filter.mpr ⟨q452, rfl⟩⟩
theorem lk_X1_352 (E : Et) (e : E.y.cls = RX1) : LK E 352 TX21 3 := by
  unfold LK; rw [e]; exact Or.inr ⟨_, List.mem_filter.mpr ⟨q997, rfl⟩⟩
theorem lk_X1_358 (E : Et) (e : E.y.cls = RX1) : LK E 358 TX22 7 := by
  unfold LK; rw [e]; exact Or.inr ⟨_, List.mem_filter.mpr ⟨q1074, rfl⟩⟩
theorem lk_X1_362 (E : Et) (e : E.y.cls = RX1) : LK E 362 TX22 8 := by
  unfold LK; rw [e]; exact Or.inr ⟨_, List.mem_filter.mpr ⟨q1076, rfl⟩⟩
theorem lk_X1_369 (E : Et) (e : E.y.cls = RX1) : LK E 369 TX20 5 := by
  unfold LK; rw [e]; exact Or.inr ⟨_, List.mem_filter.mpr ⟨q1022, rfl⟩⟩
theorem lk_X1_373 (E : Et) (e : E.y.cls = RX1) : LK E 373 TX20 6 := by
  unfold LK; rw [e]; exact Or.inr ⟨_, List.mem_filter.mpr ⟨q1024, rfl⟩⟩
theorem lk_X1_376 (E : Et) (e : E.y.cls = RX1) : LK E 376 TX21 0 := by
  unfold LK; rw [e]; exact Or.inr ⟨_, List.mem_filter.mpr ⟨q992, rfl⟩⟩
theorem lk_X1_377 (E : Et) (e : E.y.cls = RX1) : LK E 377 TX21 1 := by
  unfold LK; rw [e]; exact Or.inr ⟨_, List.mem_filter.mpr ⟨q993, rfl⟩⟩
theorem lk_X1_380 (E : Et) (e : E.y.cls = RX1) : LK E 380 TX21 2 := by
  unfold LK; rw [e]; exact Or.inr ⟨_, List.mem_filter.mpr ⟨q994, rfl⟩⟩
theorem lk_X1_383 (E : Et) (e : E.y.cls = RX1) : LK E 383 TX21 5 := by
  unfold LK; rw [e]; exact Or.inr ⟨_, List.mem_filter.mpr ⟨q1002, rfl⟩⟩
theorem lk_X1_386 (E : Et) (e : E.y.cls = RX1) : LK E 386 TX22 10 := by
  unfold LK; rw [e]; exact Or.inr ⟨_, List.mem_filter.mpr ⟨q1079, rfl⟩⟩
theorem lk_X1_387 (E : Et) (e : E.y.cls = RX1) : LK E 387 TX2 2 := by
  unfold LK; rw [e]; exact Or.inr ⟨_, List.mem_filter.mpr ⟨q541, rfl⟩⟩
theorem lk_X1_388 (E : Et) (e : E.y.cls = RX1) : LK E 388 TX22 11 := by
  unfold LK; rw [e]; exact Or.inr ⟨_, List.mem_filter.mpr ⟨q1080, rfl⟩⟩
theorem lk_X1_391 (E : Et) (e : E.y.cls = RX1) : LK E 391 TX22 12 := by
  unfold LK; rw [e]; exact Or.inr ⟨_, List.mem_filter.mpr ⟨q1081, rfl⟩⟩
theorem lk_X1_398 (E : Et) (e : E.y.cls = RX1) : LK E 398 TX3 0 := by
  unfold LK; rw [e]; exact Or.inr ⟨_, List.mem_filter.mpr ⟨q484, rfl⟩⟩
theorem lk_X1_411 (E : Et) (e : E.y.cls = RX1) : LK E 411 TX22 21 := by
  unfold LK; rw [e]; exact Or.inr ⟨_, List.mem_filter.mpr ⟨q1092, rfl⟩⟩
theorem lk_X1_413 (E : Et) (e : E.y.cls = RX1) : LK E 413 TX3 7 := by
  unfold LK; rw [e]; exact Or.inr ⟨_, List.mem_filter.mpr ⟨q509, rfl⟩⟩
theorem lk_X1_416 (E : Et) (e : E.y.cls = RX1) : LK E 416 TX3 1 := by
  unfold LK; rw [e]; exact Or.inr ⟨_, List.mem_filter.mpr ⟨q489, rfl⟩⟩
theorem lk_X1_420 (E : Et) (e : E.y.cls = RX1) : LK E 420 TX7 3 := by
  unfold LK; rw [e]; exact Or.inr ⟨_, List.mem_filter.mpr ⟨q423, rfl⟩⟩
theorem lk_X1_424 (E : Et) (e : E.y.cls = RX1) : LK E 424 TX7 4 := by
  unfold LK; rw [e]; exact Or.inr ⟨_, List.mem_filter.mpr ⟨q425, rfl⟩⟩
theorem lk_X1_425 (E : Et) (e : E.y.cls = RX1) : LK E 425 TX3 6 := by
  unfold LK; rw [e]; exact Or.inr ⟨_, List.mem_filter.mpr ⟨q506, rfl⟩⟩
theorem lk_X1_428 (E : Et) (e : E.y.cls = RX1) : LK E 428 TX7 0 := by
  unfold LK; rw [e]; exact Or.inr ⟨_, List.mem_filter.mpr ⟨q416, rfl⟩⟩
theorem lk_X1_431 (E : Et) (e : E.y.cls = RX1) : LK E 431 TX3 9 := by
  unfold LK; rw [e]; exact Or.inr ⟨_, List.mem_filter.mpr ⟨q515, rfl⟩⟩
theorem lk_X1_434 (E : Et) (e : E.y.cls = RX1) : LK E 434 TX8 6 := by
  unfold LK; rw [e]; exact Or.inr ⟨_, List.mem_filter.mpr ⟨q464, rfl⟩⟩
theorem lk_X1_435 (E : Et) (e : E.y.cls = RX1) : LK E 435 TX8 7 := by
  unfold LK; rw [e]; exact Or.inr ⟨_, List.mem_filter.mpr ⟨q466, rfl⟩⟩
theorem lk_X1_469 (E : Et) (e : E.y.cls = RX1) : LK E 469 TX13 3 := by
  unfold LK; rw [e]; exact Or.inr ⟨_, List.mem_filter.mpr ⟨q782, rfl⟩⟩
theorem lk_X1_470 (E : Et) (e : E.y.cls = RX1) : LK E 470 TX7 2 := by
  unfold LK; rw [e]; exact Or.inr ⟨_, List.mem_filter.mpr ⟨q421, rfl⟩⟩
theorem lk_X1_483 (E : Et) (e : E.y.cls = RX1) : LK E 483 TX1 28 := by
  unfold LK; rw [e]; exact Or.inl q1334
theorem lk_X1_487 (E : Et) (e : E.y.cls = RX1) : LK E 487 TX21 4 := by
  unfold LK; rw [e]; exact Or.inr ⟨_, List.mem_filter.mpr ⟨q1000, rfl⟩⟩
theorem lk_X1_510 (E : Et) (e : E.y.cls = RX1) : LK E 510 TX30 0 := by
  unfold LK; rw [e]; exact Or.inr ⟨_, List.mem_filter.mpr ⟨q1517, rfl⟩⟩
theorem lk_X1_513 (E : Et) (e : E.y.cls = RX1) : LK E 513 TX30 1 := by
  unfold LK; rw [e]; exact Or.inr ⟨_, List.mem_filter.mpr ⟨q1520, rfl⟩⟩
theorem lk_X1_516 (E : Et) (e : E.y.cls = RX1) : LK E 516 TX30 2 := by
  unfold LK; rw [e]; exact Or.inr ⟨_, List.mem_filter.mpr ⟨q1523, rfl⟩⟩
theorem lk_X1_556 (E : Et) (e : E.y.cls = RX1) : LK E 556 TX19 0 := by
  unfold LK; rw [e]; exact Or.inr ⟨_, List.mem_filter.mpr ⟨q956, rfl⟩⟩
theorem lk_X1_557 (E : Et) (e : E.y.cls = RX1) : LK E 557 TX19 1 := by
  unfold LK; rw [e]; exact Or.inr ⟨_, List.mem_filter.mpr ⟨q958, rfl⟩⟩
theorem lk_X1_587 (E : Et) (e : E.y.cls = RX1) : LK E 587 TX30 6 := by
  unfold LK; rw [e]; exact Or.inr ⟨_, List.mem_filter.mpr ⟨q1534, rfl⟩⟩
theorem lk_X1_601 (E : Et) (e : E.y.cls = RX1) : LK E 601 TX30 4 := by
  unfold LK; rw [e]; exact Or.inr ⟨_, List.mem_filter.mpr ⟨q1529, rfl⟩⟩
theorem lk_X1_604 (E : Et) (e : E.y.cls = RX1) : LK E 604 TX30 3 := by
  unfold LK; rw [e]; exact Or.inr ⟨_, List.mem_filter.mpr ⟨q1526, rfl⟩⟩
theorem lk_X1_606 (E : Et) (e : E.y.cls = RX1) : LK E 606 TX30 5 := by
  unfold LK; rw [e]; exact Or.inr ⟨_, List.mem_filter.mpr ⟨q1532, rfl⟩⟩
theorem lk_X1_629 (E : Et) (e : E.y.cls = RX1) : LK E 629 TX22 26 := by
  unfold LK; rw [e]; exact Or.inr ⟨_, List.mem_filter.mpr ⟨q1100, rfl⟩⟩
theorem lk_X1_632 (E : Et) (e : E.y.cls = RX1) : LK E 632 TX22 25 := by
  unfold LK; rw [e]; exact Or.inr ⟨_, List.mem_filter.mpr ⟨q1099, rfl⟩⟩
theorem lk_X1_635 (E : Et) (e : E.y.cls = RX1) : LK E 635 TX22 23 := by
  unfold LK; rw [e]; exact Or.inr ⟨_, List.mem_filter.mpr ⟨q1095, rfl⟩⟩
theorem lk_X1_638 (E : Et) (e : E.y.cls = RX1) : LK E 638 TX22 24 := by
  unfold LK; rw [e]; exact Or.inr ⟨_, List.mem_filter.mpr ⟨q1097, rfl⟩⟩
theorem lk_X1_650 (E : Et) (e : E.y.cls = RX1) : LK E 650 TX15 0 := by
  unfold LK; rw [e]; exact Or.inr ⟨_, List.mem_filter.mpr ⟨q924, rfl⟩⟩
theorem lk_X1_667 (E : Et) (e : E.y.cls = RX1) : LK E 667 TX3 5 := by
  unfold LK; rw [e]; exact Or.inr ⟨_, List.mem_filter.mpr ⟨q503, rfl⟩⟩
theorem lk_X1_671 (E : Et) (e : E.y.cls = RX1) : LK E 671 TX8 4 := by
  unfold LK; rw [e]; exact Or.inr ⟨_, List.mem_filter.mpr ⟨q460, rfl⟩⟩
theorem lk_X1_672 (E : Et) (e : E.y.cls = RX1) : LK E 672 TX6 0 := by
  unfold LK; rw [e]; exact Or.inr ⟨_, List.mem_filter.mpr ⟨q381, rfl⟩⟩
theorem lk_X1_677 (E : Et) (e : E.y.cls = RX1) : LK E 677 TX6 1 := by
  unfold LK; rw [e]; exact Or.inr ⟨_, List.mem_filter.mpr ⟨q385, rfl⟩⟩
theorem lk_X1_684 (E : Et) (e : E.y.cls = RX1) : LK E 684 TX6 2 := by
  unfold LK; rw [e]; exact Or.inr ⟨_, List.mem_filter.mpr ⟨q389, rfl⟩⟩
theorem lk_X1_717 (E : Et) (e : E.y.cls = RX1) : LK E 717 TX20 0 := by
  unfold LK; rw [e]; exact Or.inr ⟨_, List.mem_filter.mpr ⟨q1016, rfl⟩⟩
theorem lk_X1_728 (E : Et) (e : E.y.cls = RX1) : LK E 728 TX1 11 := by
  unfold LK; rw [e]; exact Or.inl q1317
theorem lk_X1_731 (E : Et) (e : E.y.cls = RX1) : LK E 731 TX1 10 := by
  unfold LK; rw [e]; exact Or.inl q1316
theorem lk_X1_734 (E : Et) (e : E.y.cls = RX1) : LK E 734 TX1 6 := by
  unfold LK; rw [e]; exact Or.inl q1312
theorem lk_X1_737 (E : Et) (e : E.y.cls = RX1) : LK E 737 TX22 14 := by
  unfold LK; rw [e]; exact Or.inr ⟨_, List.mem_filter.mpr ⟨q1083, rfl⟩⟩
theorem lk_X1_739 (E : Et) (e : E.y.cls = RX1) : LK E 739 TX20 2 := by
  unfold LK; rw [e]; exact Or.inr ⟨_, List.mem_filter.mpr ⟨q1018, rfl⟩⟩
theorem lk_X1_740 (E : Et) (e : E.y.cls = RX1) : LK E 740 TX20 3 := by
  unfold LK; rw [e]; exact Or.inr ⟨_, List.mem_filter.mpr ⟨q1019, rfl⟩⟩
theorem lk_X1_743 (E : Et) (e : E.y.cls = RX1) : LK E 743 TX1 12 := by
  unfold LK; rw [e]; exact Or.inl q1318
theorem lk_X1_746 (E : Et) (e : E.y.cls = RX1) : LK E 746 TX20 4 := by
  unfold LK; rw [e]; exact Or.inr ⟨_, List.mem_filter.mpr ⟨q1020, rfl⟩⟩
theorem lk_X1_765 (E : Et) (e : E.y.cls = RX1) : LK E 765 TX22 16 := by
  unfold LK; rw [e]; exact Or.inr ⟨_, List.mem_filter.mpr ⟨q1085, rfl⟩⟩
theorem lk_X1_770 (E : Et) (e : E.y.cls = RX1) : LK E 770 TX22 19 := by
  unfold LK; rw [e]; exact Or.inr ⟨_, List.mem_filter.mpr ⟨q1090, rfl⟩⟩
theorem lk_X1_773 (E : Et) (e : E.y.cls = RX1) : LK E 773 TX22 20 := by
  unfold LK; rw [e]; exact Or.inr ⟨_, List.mem_filter.mpr ⟨q1091, rfl⟩⟩
theorem lk_X1_775 (E : Et) (e : E.y.cls = RX1) : LK E 775 TX22 22 := by
  unfold LK; rw [e]; exact Or.inr ⟨_, List.mem_filter.mpr ⟨q1093, rfl⟩⟩
theorem lk_X1_778 (E : Et) (e : E.y.cls = RX1) : LK E 778 TX22 18 := by
  unfold LK; rw [e]; exact Or.inr ⟨_, List.mem_filter.mpr ⟨q1089, rfl⟩⟩
theorem lk_X1_781 (E : Et) (e : E.y.cls = RX1) : LK E 781 TX10 1 := by
  unfold LK; rw [e]; exact Or.inr ⟨_, List.mem_filter.mpr ⟨q569, rfl⟩⟩
theorem lk_X1_784 (E : Et) (e : E.y.cls = RX1) : LK E 784 TX10 2 := by
  unfold LK; rw [e]; exact Or.inr ⟨_, List.mem_filter.mpr ⟨q571, rfl⟩⟩
theorem lk_X1_800 (E : Et) (e : E.y.cls = RX1) : LK E 800 TX1 4 := by
  unfold LK; rw [e]; exact Or.inl q1310
theorem lk_X1_801 (E : Et) (e : E.y.cls = RX1) : LK E 801 TX1 29 := by
  unfold LK; rw [e]; exact Or.inl q1335
theorem lk_X1_802 (E : Et) (e : E.y.cls = RX1) : LK E 802 TX1 30 := by
  unfold LK; rw [e]; exact Or.inl q1336
theorem lk_X1_811 (E : Et) (e : E.y.cls = RX1) : LK E 811 TX22 13 := by
  unfold LK; rw [e]; exact Or.inr ⟨_, List.mem_filter.mpr ⟨q1082, rfl⟩⟩
theorem lk_X1_814 (E : Et) (e : E.y.cls = RX1) : LK E 814 TX1 20 := by
  unfold LK; rw [e]; exact Or.inl q1326
theorem lk_X1_817 (E : Et) (e : E.y.cls = RX1) : LK E 817 TX1 9 := by
  unfold LK; rw [e]; exact Or.inl q1315
theorem lk_X1_826 (E : Et) (e : E.y.cls = RX1) : LK E 826 TX1 18 := by
  unfold LK; rw [e]; exact Or.inl q1324
theorem lk_X1_840 (E : Et) (e : E.y.cls = RX1) : LK E 840 TX1 32 := by
  unfold LK; rw [e]; exact Or.inl q1338
theorem lk_X1_843 (E : Et) (e : E.y.cls = RX1) : LK E 843 TX1 16 := by
  unfold LK; rw [e]; exact Or.inl q1322
theorem lk_X1_848 (E : Et) (e : E.y.cls = RX1) : LK E 848 TX1 17 := by
  unfold LK; rw [e]; exact Or.inl q1323
theorem lk_X1_859 (E : Et) (e : E.y.cls = RX1) : LK E 859 TX2 1 := by
  unfold LK; rw [e]; exact Or.inr ⟨_, List.mem_filter.mpr ⟨q540, rfl⟩⟩
theorem lk_X1_861 (E : Et) (e : E.y.cls = RX1) : LK E 861 TX12 5 := by
  unfold LK; rw [e]; exact Or.inr ⟨_, List.mem_filter.mpr ⟨q713, rfl⟩⟩
theorem lk_X1_872 (E : Et) (e : E.y.cls = RX1) : LK E 872 TX1 22 := by
  unfold LK; rw [e]; exact Or.inl q1328
theorem lk_X13_16 (E : Et) (e : E.y.cls = RX13) : LK E 16 TX13 0 := by
  unfold LK; rw [e]; exact Or.inl q779
theorem lk_X13_22 (E : Et) (e : E.y.cls = RX13) : LK E 22 TX13 4 := by
  unfold LK; rw [e]; exact Or.inl q784
theorem lk_X13_26 (E : Et) (e : E.y.cls = RX13) : LK E 26 TX13 5 := by
  unfold LK; rw [e]; exact Or.inl q785
theorem lk_X13_29 (E : Et) (e : E.y.cls = RX13) : LK E 29 TX13 8 := by
  unfold LK; rw [e]; exact Or.inl q788
theorem lk_X13_32 (E : Et) (e : E.y.cls = RX13) : LK E 32 TX13 11 := by
  unfold LK; rw [e]; exact Or.inl q791
theorem lk_X13_35 (E : Et) (e : E.y.cls = RX13) : LK E 35 TX13 12 := by
  unfold LK; rw [e]; exact Or.inl q792
theorem lk_X13_38 (E : Et) (e : E.y.cls = RX13) : LK E 38 TX13 13 := by
  unfold LK; rw [e]; exact Or.inl q793
theorem lk_X13_49 (E : Et) (e : E.y.cls = RX13) : LK E 49 TX13 14 := by
  unfold LK; rw [e]; exact Or.inl q794
theorem lk_X13_52 (E : Et) (e : E.y.cls = RX13) : LK E 52 TX8 0 := by
  unfold LK; rw [e]; exact Or.inr ⟨_, List.mem_filter.mpr ⟨q444, rfl⟩⟩
theorem lk_X13_80 (E : Et) (e : E.y.cls = RX13) : LK E 80 TX7 0 := by
  unfold LK; rw [e]; exact Or.inr ⟨_, List.mem_filter.mpr ⟨q414, rfl⟩⟩
theorem lk_X13_85 (E : Et) (e : E.y.cls = RX13) : LK E 85 TX13 1 := by
  unfold LK; rw [e]; exact Or.inl q780
theorem lk_X13_93 (E : Et) (e : E.y.cls = RX13) : LK E 93 TX7 2 := by
  unfold LK; rw [e]; exact Or.inr ⟨_, List.mem_filter.mpr ⟨q419, rfl⟩⟩
theorem lk_X13_97 (E : Et) (e : E.y.cls = RX13) : LK E 97 TX5 1 := by
  unfold LK; rw [e]; exact Or.inr ⟨_, List.mem_filter.mpr ⟨q364, rfl⟩⟩
theorem lk_X13_102 (E : Et) (e : E.y.cls = RX13) : LK E 102 TX3 3 := by
  unfold LK; rw [e]; exact Or.inr ⟨_, List.mem_filter.mpr ⟨q494, rfl⟩⟩
theorem lk_X13_110 (E : Et) (e : E.y.cls = RX13) : LK E 110 TX3 1 := by
  unfold LK; rw [e]; exact Or.inr ⟨_, List.mem_filter.mpr ⟨q487, rfl⟩⟩
theorem lk_X13_114 (E : Et) (e : E.y.cls = RX13) : LK E 114 TX13 2 := by
  unfold LK; rw [e]; exact Or.inl q781
theorem lk_X13_118 (E : Et) (e : E.y.cls = RX13) : LK E 118 TX8 1 := by
  unfold LK; rw [e]; exact Or.inr ⟨_, List.mem_filter.mpr ⟨q448, rfl⟩⟩
theorem lk_X13_121 (E : Et) (e : E.y.cls = RX13) : LK E 121 TX8 3 := by
  unfold LK; rw [e]; exact Or.inr ⟨_, List.mem_filter.mpr ⟨q456, rfl⟩⟩
theorem lk_X13_124 (E : Et) (e : E.y.cls = RX13) : LK E 124 TX13 15 := by
  unfold LK; rw [e]; exact Or.inl q795
theorem lk_X13_131 (E : Et) (e : E.y.cls = RX13) : LK E 131 TX13 6 := by
  unfold LK; rw [e]; exact Or.inl q786
theorem lk_X13_138 (E : Et) (e : E.y.cls = RX13) : LK E 138 TX13 9 := by
  unfold LK; rw [e]; exact Or.inl q789
theorem lk_X13_142 (E : Et) (e : E.y.cls = RX13) : LK E 142 TX13 10 := by
  unfold LK; rw [e]; exact Or.inl q790
theorem lk_X13_172 (E : Et) (e : E.y.cls = RX13) : LK E 172 TX13 7 := by
  unfold LK; rw [e]; exact Or.inl q787
theorem lk_X13_222 (E : Et) (e : E.y.cls = RX13) : LK E 222 TX8 2 := by
  unfold LK; rw [e]; exact Or.inr ⟨_, List.mem_filter.mpr ⟨q454, rfl⟩⟩
theorem lk_X13_225 (E : Et) (e : E.y.cls = RX13) : LK E 225 TX3 4 := by
  unfold LK; rw [e]; exact Or.inr ⟨_, List.mem_filter.mpr ⟨q499, rfl⟩⟩
theorem lk_X13_239 (E : Et) (e : E.y.cls = RX13) : LK E 239 TX13 3 := by
  unfold LK; rw [e]; exact Or.inl q783
theorem lk_X13_245 (E : Et) (e : E.y.cls = RX13) : LK E 245 TX14 0 := by
  unfold LK; rw [e]; exact Or.inr ⟨_, List.mem_filter.mpr ⟨q750, rfl⟩⟩
theorem lk_X13_254 (E : Et) (e : E.y.cls = RX13) : LK E 254 TX14 1 := by
  unfold LK; rw [e]; exact Or.inr ⟨_, List.mem_filter.mpr ⟨q752, rfl⟩⟩
theorem lk_X13_256 (E : Et) (e : E.y.cls = RX13) : LK E 256 TX14 2 := by
  unfold LK; rw [e]; exact Or.inr ⟨_, List.mem_filter.mpr ⟨q754, rfl⟩⟩
theorem lk_X13_317 (E : Et) (e : E.y.cls = RX13) : LK E 317 TX8 4 := by
  unfold LK; rw [e]; exact Or.inr ⟨_, List.mem_filter.mpr ⟨q459, rfl⟩⟩
theorem lk_X13_320 (E : Et) (e : E.y.cls = RX13) : LK E 320 TX3 5 := by
  unfold LK; rw [e]; exact Or.inr ⟨_, List.mem_filter.mpr ⟨q502, rfl⟩⟩
theorem lk_X13_324 (E : Et) (e : E.y.cls = RX13) : LK E 324 TX6 0 := by
  unfold LK; rw [e]; exact Or.inr ⟨_, List.mem_filter.mpr ⟨q380, rfl⟩⟩
theorem lk_X13_330 (E : Et) (e : E.y.cls = RX13) : LK E 330 TX6 1 := by
  unfold LK; rw [e]; exact Or.inr ⟨_, List.mem_filter.mpr ⟨q384, rfl⟩⟩
theorem lk_X13_333 (E : Et) (e : E.y.cls = RX13) : LK E 333 TX6 2 := by
  unfold LK; rw [e]; exact Or.inr ⟨_, List.mem_filter.mpr ⟨q388, rfl⟩⟩
theorem lk_X13_339 (E : Et) (e : E.y.cls = RX13) : LK E 339 TX8 5 := by
  unfold LK; rw [e]; exact Or.inr ⟨_, List.mem_filter.mpr ⟨q462, rfl⟩⟩
theorem lk_X14_7 (E : Et) (e : E.y.cls = RX14) : LK E 7 TX14 0 := by
  unfold LK; rw [e]; exact Or.inl q749
theorem lk_X14_13 (E : Et) (e : E.y.cls = RX14) : LK E 13 TX14 1 := by
  unfold LK; rw [e]; exact Or.inl q751
theorem lk_X14_18 (E : Et) (e : E.y.cls = RX14) : LK E 18 TX14 2 := by
  unfold LK; rw [e]; exact Or.inl q753
theorem lk_X6_7 (E : Et) (e : E.y.cls = RX6) : LK E 7 TX6 0 := by
  unfold LK; rw [e]; exact Or.inl q378
theorem lk_X6_13 (E : Et) (e : E.y.cls = RX6) : LK E 13 TX6 1 := by
  unfold LK; rw [e]; exact Or.inl q382
theorem lk_X6_17 (E : Et) (e : E.y.cls = RX6) : LK E 17 TX6 2 := by
  unfold LK; rw [e]; exact Or.inl q386
theorem lk_X6_20 (E : Et) (e : E.y.cls = RX6) : LK E 20 TX6 3 := by
  unfold LK; rw [e]; exact Or.inl q390
theorem lk_X6_24 (E : Et) (e : E.y.cls = RX6) : LK E 24 TX6 4 := by
  unfold LK; rw [e]; exact Or.inl q392
theorem lk_X9_9 (E : Et) (e : E.y.cls = RX9) : LK E 9 TX9 0 := by
  unfold LK; rw [e]; exact Or.inl q610
theorem lk_X9_16 (E : Et) (e : E.y.cls = RX9) : LK E 16 TX9 1 := by
  unfold LK; rw [e]; exact Or.inl q613
theorem lk_X10_7 (E : Et) (e : E.y.cls = RX10) : LK E 7 TX10 0 := by
  unfold LK; rw [e]; exact Or.inl q566
theorem lk_X10_13 (E : Et) (e : E.y.cls = RX10) : LK E 13 TX10 1 := by
  unfold LK; rw [e]; exact Or.inl q568
theorem lk_X10_17 (E : Et) (e : E.y.cls = RX10) : LK E 17 TX10 2 := by
  unfold LK; rw [e]; exact Or.inl q570
theorem lk_X21_9 (E : Et) (e : E.y.cls = RX21) : LK E 9 TX21 3 := by
  unfold LK; rw [e]; exact Or.inl q995
theorem lk_X21_15 (E : Et) (e : E.y.cls = RX21) : LK E 15 TX21 4 := by
  unfold LK; rw [e]; exact Or.inl q998
theorem lk_X8_10 (E : Et) (e : E.y.cls = RX8) : LK E 10 TX8 1 := by
  unfold LK; rw [e]; exact Or.inl q447
theorem lk_X8_16 (E : Et) (e : E.y.cls = RX8) : LK E 16 TX8 2 := by
  unfold LK; rw [e]; exact Or.inl q451
theorem lk_X8_19 (E : Et) (e : E.y.cls = RX8) : LK E 19 TX8 3 := by
  unfold LK; rw [e]; exact Or.inl q455
theorem lk_X8_22 (E : Et) (e : E.y.cls = RX8) : LK E 22 TX5 1 := by
  unfold LK; rw [e]; exact Or.inr ⟨_, List.mem_filter.mpr ⟨q363, rfl⟩⟩
theorem lk_X15_12 (E : Et) (e : E.y.cls = RX15) : LK E 12 TX15 0 := by
  unfold LK; rw [e]; exact Or.inl q923
theorem lk_X15_21 (E : Et) (e : E.y.cls = RX15) : LK E 21 TX15 1 := by
  unfold LK; rw [e]; exact Or.inl q925
theorem lk_X15_25 (E : Et) (e : E.y.cls = RX15) : LK E 25 TX15 2 := by
  unfold LK; rw [e]; exact Or.inl q926
theorem lk_X15_32 (E : Et) (e : E.y.cls = RX15) : LK E 32 TX15 4 := by
  unfold LK; rw [e]; exact Or.inl q928
theorem lk_X15_36 (E : Et) (e : E.y.cls = RX15) : LK E 36 TX15 5 := by
  unfold LK; rw [e]; exact Or.inl q929
theorem lk_X15_40 (E : Et) (e : E.y.cls = RX15) : LK E 40 TX15 6 := by
  unfold LK; rw [e]; exact Or.inl q930
theorem lk_X15_43 (E : Et) (e : E.y.cls = RX15) : LK E 43 TX15 3 := by
  unfold LK; rw [e]; exact Or.inl q927
theorem lk_X15_46 (E : Et) (e : E.y.cls = RX15) : LK E 46 TX17 9 := by
  unfold LK; rw [e]; exact Or.inr ⟨_, List.mem_filter.mpr ⟨q895, rfl⟩⟩
theorem lk_X15_49 (E : Et) (e : E.y.cls = RX15) : LK E 49 TX17 10 := by
  unfold LK; rw [e]; exact Or.inr ⟨_, List.mem_filter.mpr ⟨q897, rfl⟩⟩
theorem lk_X15_56 (E : Et) (e : E.y.cls = RX15) : LK E 56 TX17 4 := by
  unfold LK; rw [e]; exact Or.inr ⟨_, List.mem_filter.mpr ⟨q885, rfl⟩⟩
theorem lk_X15_70 (E : Et) (e : E.y.cls = RX15) : LK E 70 TX17 0 := by
  unfold LK; rw [e]; exact Or.inr ⟨_, List.mem_filter.mpr ⟨q877, rfl⟩⟩
theorem lk_X15_87 (E : Et) (e : E.y.cls = RX15) : LK E 87 TX17 1 := by
  unfold LK; rw [e]; exact Or.inr ⟨_, List.mem_filter.mpr ⟨q879, rfl⟩⟩
theorem lk_X15_105 (E : Et) (e : E.y.cls = RX15) : LK E 105 TX17 7 := by
  unfold LK; rw [e]; exact Or.inr ⟨_, List.mem_filter.mpr ⟨q891, rfl⟩⟩
theorem lk_X15_133 (E : Et) (e : E.y.cls = RX15) : LK E 133 TX17 2 := by
  unfold LK; rw [e]; exact Or.inr ⟨_, List.mem_filter.mpr ⟨q881, rfl⟩⟩
theorem lk_X15_140 (E : Et) (e : E.y.cls = RX15) : LK E 140 TX17 5 := by
  unfold LK; rw [e]; exact Or.inr ⟨_, List.mem_filter.mpr ⟨q887, rfl⟩⟩
theorem lk_X15_143 (E : Et) (e : E.y.cls = RX15) : LK E 143 TX17 6 := by
  unfold LK; rw [e]; exact Or.inr ⟨_, List.mem_filter.mpr ⟨q889, rfl⟩⟩
theorem lk_X15_146 (E : Et) (e : E.y.cls = RX15) : LK E 146 TX17 8 := by
  unfold LK; rw [e]; exact Or.inr ⟨_, List.mem_filter.mpr ⟨q893, rfl⟩⟩
theorem lk_X15_153 (E : Et) (e : E.y.cls = RX15) : LK E 153 TX17 3 := by
  unfold LK; rw [e]; exact Or.inr ⟨_, List.mem_filter.mpr ⟨q883, rfl⟩⟩
theorem lk_X16_7 (E : Et) (e : E.y.cls = RX16) : LK E 7 TX16 0 := by
  unfold LK; rw [e]; exact Or.inl q841
theorem lk_X16_13 (E : Et) (e : E.y.cls = RX16) : LK E 13 TX16 1 := by
  unfold LK; rw [e]; exact Or.inl q842
theorem lk_X16_17 (E : Et) (e : E.y.cls = RX16) : LK E 17 TX16 2 := by
  unfold LK; rw [e]; exact Or.inl q843
theorem lk_X16_20 (E : Et) (e : E.y.cls = RX16) : LK E 20 TX16 3 := by
  unfold LK; rw [e]; exact Or.inl q844
theorem lk_X16_31 (E : Et) (e : E.y.cls = RX16) : LK E 31 TX16 4 := by
  unfold LK; rw [e]; exact Or.inl q845
theorem lk_X16_35 (E : Et) (e : E.y.cls = RX16) : LK E 35 TX16 5 := by
  unfold LK; rw [e]; exact Or.inl q846
theorem lk_X18_7 (E : Et) (e : E.y.cls = RX18) : LK E 7 TX18 0 := by
  unfold LK; rw [e]; exact Or.inl q872
theorem lk_X17_10 (E : Et) (e : E.y.cls = RX17) : LK E 10 TX17 0 := by
  unfold LK; rw [e]; exact Or.inl q876
theorem lk_X17_16 (E : Et) (e : E.y.cls = RX17) : LK E 16 TX17 1 := by
  unfold LK; rw [e]; exact Or.inl q878
theorem lk_X17_19 (E : Et) (e : E.y.cls = RX17) : LK E 19 TX17 2 := by
  unfold LK; rw [e]; exact Or.inl q880
theorem lk_X17_22 (E : Et) (e : E.y.cls = RX17) : LK E 22 TX17 3 := by
  unfold LK; rw [e]; exact Or.inl q882
theorem lk_X17_25 (E : Et) (e : E.y.cls = RX17) : LK E 25 TX17 4 := by
  unfold LK; rw [e]; exact Or.inl q884
theorem lk_X17_29 (E : Et) (e : E.y.cls = RX17) : LK E 29 TX17 5 := by
  unfold LK; rw [e]; exact Or.inl q886
theorem lk_X17_32 (E : Et) (e : E.y.cls = RX17) : LK E 32 TX17 6 := by
  unfold LK; rw [e]; exact Or.inl q888
theorem lk_X17_35 (E : Et) (e : E.y.cls = RX17) : LK E 35 TX17 7 := by
  unfold LK; rw [e]; exact Or.inl q890
theorem lk_X17_38 (E : Et) (e : E.y.cls = RX17) : LK E 38 TX17 8 := by
  unfold LK; rw [e]; exact Or.inl q892
theorem lk_X17_42 (E : Et) (e : E.y.cls = RX17) : LK E 42 TX17 9 := by
  unfold LK; rw [e]; exact Or.inl q894
theorem lk_X17_46 (E : Et) (e : E.y.cls = RX17) : LK E 46 TX17 10 := by
  unfold LK; rw [e]; exact Or.inl q896
theorem lk_X2_10 (E : Et) (e : E.y.cls = RX2) : LK E 10 TX2 0 := by
  unfold LK; rw [e]; exact Or.inl q537
theorem lk_X2_16 (E : Et) (e : E.y.cls = RX2) : LK E 16 TX2 1 := by
  unfold LK; rw [e]; exact Or.inl q539
theorem lk_X2_20 (E : Et) (e : E.y.cls = RX2) : LK E 20 TX2 3 := by
  unfold LK; rw [e]; exact Or.inl q542
theorem lk_X11_7 (E : Et) (e : E.y.cls = RX11) : LK E 7 TX11 0 := by
  unfold LK; rw [e]; exact Or.inl q627
theorem lk_X11_16 (E : Et) (e : E.y.cls = RX11) : LK E 16 TX30 4 := by
  unfold LK; rw [e]; exact Or.inr ⟨_, List.mem_filter.mpr ⟨q1528, rfl⟩⟩
theorem lk_X11_19 (E : Et) (e : E.y.cls = RX11) : LK E 19 TX30 0 := by
  unfold LK; rw [e]; exact Or.inr ⟨_, List.mem_filter.mpr ⟨q1515, rfl⟩⟩
theorem lk_X11_23 (E : Et) (e : E.y.cls = RX11) : LK E 23 TX30 1 := by
  unfold LK; rw [e]; exact Or.inr ⟨_, List.mem_filter.mpr ⟨q1518, rfl⟩⟩
theorem lk_X11_27 (E : Et) (e : E.y.cls = RX11) : LK E 27 TX30 2 := by
  unfold LK; rw [e]; exact Or.inr ⟨_, List.mem_filter.mpr ⟨q1521, rfl⟩⟩
theorem lk_X11_30 (E : Et) (e : E.y.cls = RX11) : LK E 30 TX30 3 := by
  unfold LK; rw [e]; exact Or.inr ⟨_, List.mem_filter.mpr ⟨q1525, rfl⟩⟩
theorem lk_X11_33 (E : Et) (e : E.y.cls = RX11) : LK E 33 TX30 5 := by
  unfold LK; rw [e]; exact Or.inr ⟨_, List.mem_filter.mpr ⟨q1530, rfl⟩⟩
theorem lk_X11_36 (E : Et) (e : E.y.cls = RX11) : LK E 36 TX30 6 := by
  unfold LK; rw [e]; exact Or.inr ⟨_, List.mem_filter.mpr ⟨q1533, rfl⟩⟩
theorem lk_X12_9 (E : Et) (e : E.y.cls = RX12) : LK E 9 TX12 0 := by
  unfold LK; rw [e]; exact Or.inl q705
theorem lk_X12_22 (E : Et) (e : E.y.cls = RX12) : LK E 22 TX12 6 := by
  unfold LK; rw [e]; exact Or.inl q714
theorem lk_X12_25 (E : Et) (e : E.y.cls = RX12) : LK E 25 TX12 8 := by
  unfold LK; rw [e]; exact Or.inl q716
theorem lk_X12_29 (E : Et) (e : E.y.cls = RX12) : LK E 29 TX12 4 := by
  unfold LK; rw [e]; exact Or.inl q711
theorem lk_X12_33 (E : Et) (e : E.y.cls = RX12) : LK E 33 TX12 5 := by
  unfold LK; rw [e]; exact Or.inl q712
theorem lk_X12_40 (E : Et) (e : E.y.cls = RX12) : LK E 40 TX12 2 := by
  unfold LK; rw [e]; exact Or.inl q709
theorem lk_X12_43 (E : Et) (e : E.y.cls = RX12) : LK E 43 TX12 1 := by
  unfold LK; rw [e]; exact Or.inl q708
theorem lk_X12_58 (E : Et) (e : E.y.cls = RX12) : LK E 58 TX12 3 := by
  unfold LK; rw [e]; exact Or.inl q710
theorem lk_X12_62 (E : Et) (e : E.y.cls = RX12) : LK E 62 TX3 3 := by
  unfold LK; rw [e]; exact Or.inr ⟨_, List.mem_filter.mpr ⟨q495, rfl⟩⟩
theorem lk_X12_74 (E : Et) (e : E.y.cls = RX12) : LK E 74 TX4 2 := by
  unfold LK; rw [e]; exact Or.inr ⟨_, List.mem_filter.mpr ⟨q343, rfl⟩⟩
theorem lk_X12_75 (E : Et) (e : E.y.cls = RX12) : LK E 75 TX5 0 := by
  unfold LK; rw [e]; exact Or.inr ⟨_, List.mem_filter.mpr ⟨q360, rfl⟩⟩
theorem lk_X12_80 (E : Et) (e : E.y.cls = RX12) : LK E 80 TX5 1 := by
  unfold LK; rw [e]; exact Or.inr ⟨_, List.mem_filter.mpr ⟨q365, rfl⟩⟩
theorem lk_X12_95 (E : Et) (e : E.y.cls = RX12) : LK E 95 TX3 6 := by
  unfold LK; rw [e]; exact Or.inr ⟨_, List.mem_filter.mpr ⟨q505, rfl⟩⟩
theorem lk_X12_98 (E : Et) (e : E.y.cls = RX12) : LK E 98 TX3 1 := by
  unfold LK; rw [e]; exact Or.inr ⟨_, List.mem_filter.mpr ⟨q488, rfl⟩⟩
theorem lk_X12_102 (E : Et) (e : E.y.cls = RX12) : LK E 102 TX7 1 := by
  unfold LK; rw [e]; exact Or.inr ⟨_, List.mem_filter.mpr ⟨q417, rfl⟩⟩
theorem lk_X12_105 (E : Et) (e : E.y.cls = RX12) : LK E 105 TX7 0 := by
  unfold LK; rw [e]; exact Or.inr ⟨_, List.mem_filter.mpr ⟨q415, rfl⟩⟩
theorem lk_X12_108 (E : Et) (e : E.y.cls = RX12) : LK E 108 TX7 2 := by
  unfold LK; rw [e]; exact Or.inr ⟨_, List.mem_filter.mpr ⟨q420, rfl⟩⟩
theorem lk_X12_112 (E : Et) (e : E.y.cls = RX12) : LK E 112 TX3 7 := by
  unfold LK; rw [e]; exact Or.inr ⟨_, List.mem_filter.mpr ⟨q508, rfl⟩⟩
theorem lk_X12_118 (E : Et) (e : E.y.cls = RX12) : LK E 118 TX7 3 := by
  unfold LK; rw [e]; exact Or.inr ⟨_, List.mem_filter.mpr ⟨q422, rfl⟩⟩
theorem lk_X12_121 (E : Et) (e : E.y.cls = RX12) : LK E 121 TX7 4 := by
  unfold LK; rw [e]; exact Or.inr ⟨_, List.mem_filter.mpr ⟨q424, rfl⟩⟩
theorem lk_X12_123 (E : Et) (e : E.y.cls = RX12) : LK E 123 TX3 9 := by
  unfold LK; rw [e]; exact Or.inr ⟨_, List.mem_filter.mpr ⟨q514, rfl⟩⟩
theorem lk_X12_126 (E : Et) (e : E.y.cls = RX12) : LK E 126 TX3 2 := by
  unfold LK; rw [e]; exact Or.inr ⟨_, List.mem_filter.mpr ⟨q492, rfl⟩⟩
theorem lk_X12_130 (E : Et) (e : E.y.cls = RX12) : LK E 130 TX8 6 := by
  unfold LK; rw [e]; exact Or.inr ⟨_, List.mem_filter.mpr ⟨q463, rfl⟩⟩
theorem lk_X12_133 (E : Et) (e : E.y.cls = RX12) : LK E 133 TX8 7 := by
  unfold LK; rw [e]; exact Or.inr ⟨_, List.mem_filter.mpr ⟨q465, rfl⟩⟩
theorem lk_X12_134 (E : Et) (e : E.y.cls = RX12) : LK E 134 TX8 0 := by
  unfold LK; rw [e]; exact Or.inr ⟨_, List.mem_filter.mpr ⟨q446, rfl⟩⟩
theorem lk_X12_137 (E : Et) (e : E.y.cls = RX12) : LK E 137 TX8 5 := by
  unfold LK; rw [e]; exact Or.inr ⟨_, List.mem_filter.mpr ⟨q461, rfl⟩⟩
theorem lk_X12_138 (E : Et) (e : E.y.cls = RX12) : LK E 138 TX8 3 := by
  unfold LK; rw [e]; exact Or.inr ⟨_, List.mem_filter.mpr ⟨q457, rfl⟩⟩
theorem lk_X12_141 (E : Et) (e : E.y.cls = RX12) : LK E 141 TX8 1 := by
  unfold LK; rw [e]; exact Or.inr ⟨_, List.mem_filter.mpr ⟨q450, rfl⟩⟩
theorem lk_X12_148 (E : Et) (e : E.y.cls = RX12) : LK E 148 TX8 2 := by
  unfold LK; rw [e]; exact Or.inr ⟨_, List.mem_filter.mpr ⟨q453, rfl⟩⟩
theorem lk_X12_167 (E : Et) (e : E.y.cls = RX12) : LK E 167 TX3 5 := by
  unfold LK; rw [e]; exact Or.inr ⟨_, List.mem_filter.mpr ⟨q501, rfl⟩⟩
theorem lk_X12_176 (E : Et) (e : E.y.cls = RX12) : LK E 176 TX6 4 := by
  unfold LK; rw [e]; exact Or.inr ⟨_, List.mem_filter.mpr ⟨q394, rfl⟩⟩
theorem lk_X12_177 (E : Et) (e : E.y.cls = RX12) : LK E 177 TX8 4 := by
  unfold LK; rw [e]; exact Or.inr ⟨_, List.mem_filter.mpr ⟨q458, rfl⟩⟩
theorem lk_X12_185 (E : Et) (e : E.y.cls = RX12) : LK E 185 TX3 0 := by
  unfold LK; rw [e]; exact Or.inr ⟨_, List.mem_filter.mpr ⟨q485, rfl⟩⟩
theorem lk_X12_191 (E : Et) (e : E.y.cls = RX12) : LK E 191 TX3 4 := by
  unfold LK; rw [e]; exact Or.inr ⟨_, List.mem_filter.mpr ⟨q498, rfl⟩⟩
theorem lk_X12_194 (E : Et) (e : E.y.cls = RX12) : LK E 194 TX3 8 := by
  unfold LK; rw [e]; exact Or.inr ⟨_, List.mem_filter.mpr ⟨q512, rfl⟩⟩
theorem lk_X12_201 (E : Et) (e : E.y.cls = RX12) : LK E 201 TX12 7 := by
  unfold LK; rw [e]; exact Or.inl q715
theorem lk_X12_204 (E : Et) (e : E.y.cls = RX12) : LK E 204 TX4 1 := by
  unfold LK; rw [e]; exact Or.inr ⟨_, List.mem_filter.mpr ⟨q340, rfl⟩⟩
theorem lk_X12_207 (E : Et) (e : E.y.cls = RX12) : LK E 207 TX4 0 := by
  unfold LK; rw [e]; exact Or.inr ⟨_, List.mem_filter.mpr ⟨q338, rfl⟩⟩
theorem lk_X12_217 (E : Et) (e : E.y.cls = RX12) : LK E 217 TX6 1 := by
  unfold LK; rw [e]; exact Or.inr ⟨_, List.mem_filter.mpr ⟨q383, rfl⟩⟩
theorem lk_X12_220 (E : Et) (e : E.y.cls = RX12) : LK E 220 TX6 3 := by
  unfold LK; rw [e]; exact Or.inr ⟨_, List.mem_filter.mpr ⟨q391, rfl⟩⟩
theorem lk_X12_221 (E : Et) (e : E.y.cls = RX12) : LK E 221 TX6 0 := by
  unfold LK; rw [e]; exact Or.inr ⟨_, List.mem_filter.mpr ⟨q379, rfl⟩⟩
theorem lk_X12_230 (E : Et) (e : E.y.cls = RX12) : LK E 230 TX6 2 := by
  unfold LK; rw [e]; exact Or.inr ⟨_, List.mem_filter.mpr ⟨q387, rfl⟩⟩
theorem lk_X5_7 (E : Et) (e : E.y.cls = RX5) : LK E 7 TX5 1 := by
  unfold LK; rw [e]; exact Or.inl q361
theorem lk_X5_13 (E : Et) (e : E.y.cls = RX5) : LK E 13 TX4 0 := by
  unfold LK; rw [e]; exact Or.inr ⟨_, List.mem_filter.mpr ⟨q337, rfl⟩⟩
theorem lk_X5_19 (E : Et) (e : E.y.cls = RX5) : LK E 19 TX5 0 := by
  unfold LK; rw [e]; exact Or.inl q359
theorem lk_X7_10 (E : Et) (e : E.y.cls = RX7) : LK E 10 TX7 2 := by
  unfold LK; rw [e]; exact Or.inl q418
theorem lk_X3_11 (E : Et) (e : E.y.cls = RX3) : LK E 11 TX3 1 := by
  unfold LK; rw [e]; exact Or.inl q486
theorem lk_X3_19 (E : Et) (e : E.y.cls = RX3) : LK E 19 TX3 2 := by
  unfold LK; rw [e]; exact Or.inl q490
theorem lk_X3_26 (E : Et) (e : E.y.cls = RX3) : LK E 26 TX3 3 := by
  unfold LK; rw [e]; exact Or.inl q493
theorem lk_X3_33 (E : Et) (e : E.y.cls = RX3) : LK E 33 TX3 4 := by
  unfold LK; rw [e]; exact Or.inl q497
theorem lk_X3_40 (E : Et) (e : E.y.cls = RX3) : LK E 40 TX3 5 := by
  unfold LK; rw [e]; exact Or.inl q500
theorem lk_X3_46 (E : Et) (e : E.y.cls = RX3) : LK E 46 TX4 2 := by
  unfold LK; rw [e]; exact Or.inr ⟨_, List.mem_filter.mpr ⟨q341, rfl⟩⟩
theorem lk_X3_50 (E : Et) (e : E.y.cls = RX3) : LK E 50 TX6 4 := by
  unfold LK; rw [e]; exact Or.inr ⟨_, List.mem_filter.mpr ⟨q393, rfl⟩⟩
theorem lk_X3_51 (E : Et) (e : E.y.cls = RX3) : LK E 51 TX3 6 := by
  unfold LK; rw [e]; exact Or.inl q504
theorem lk_X3_54 (E : Et) (e : E.y.cls = RX3) : LK E 54 TX3 7 := by
  unfold LK; rw [e]; exact Or.inl q507
theorem lk_X3_57 (E : Et) (e : E.y.cls = RX3) : LK E 57 TX3 8 := by
  unfold LK; rw [e]; exact Or.inl q510
theorem lk_X3_60 (E : Et) (e : E.y.cls = RX3) : LK E 60 TX3 9 := by
  unfold LK; rw [e]; exact Or.inl q513
theorem lk_X3_63 (E : Et) (e : E.y.cls = RX3) : LK E 63 TX5 1 := by
  unfold LK; rw [e]; exact Or.inr ⟨_, List.mem_filter.mpr ⟨q362, rfl⟩⟩
theorem lk_X22_7 (E : Et) (e : E.y.cls = RX22) : LK E 7 TX22 6 := by
  unfold LK; rw [e]; exact Or.inl q1071
theorem lk_X22_13 (E : Et) (e : E.y.cls = RX22) : LK E 13 TX22 7 := by
  unfold LK; rw [e]; exact Or.inl q1073
theorem lk_X22_17 (E : Et) (e : E.y.cls = RX22) : LK E 17 TX22 8 := by
  unfold LK; rw [e]; exact Or.inl q1075
theorem lk_X22_23 (E : Et) (e : E.y.cls = RX22) : LK E 23 TX22 10 := by
  unfold LK; rw [e]; exact Or.inl q1078
theorem lk_X22_32 (E : Et) (e : E.y.cls = RX22) : LK E 32 TX22 17 := by
  unfold LK; rw [e]; exact Or.inl q1086
theorem lk_X22_36 (E : Et) (e : E.y.cls = RX22) : LK E 36 TX22 18 := by
  unfold LK; rw [e]; exact Or.inl q1088
theorem lk_X22_39 (E : Et) (e : E.y.cls = RX22) : LK E 39 TX22 23 := by
  unfold LK; rw [e]; exact Or.inl q1094
theorem lk_X22_42 (E : Et) (e : E.y.cls = RX22) : LK E 42 TX22 24 := by
  unfold LK; rw [e]; exact Or.inl q1096
theorem lk_X22_45 (E : Et) (e : E.y.cls = RX22) : LK E 45 TX22 25 := by
  unfold LK; rw [e]; exact Or.inl q1098
theorem lk_X4_7 (E : Et) (e : E.y.cls = RX4) : LK E 7 TX4 0 := by
  unfold LK; rw [e]; exact Or.inl q336
theorem lk_X4_13 (E : Et) (e : E.y.cls = RX4) : LK E 13 TX4 1 := by
  unfold LK; rw [e]; exact Or.inl q339
theorem lk_X4_17 (E : Et) (e : E.y.cls = RX4) : LK E 17 TX4 2 := by
  unfold LK; rw [e]; exact Or.inl q342
theorem lk_X30_7 (E : Et) (e : E.y.cls = RX30) : LK E 7 TX30 3 := by
  unfold LK; rw [e]; exact Or.inl q1524
theorem lk_X30_13 (E : Et) (e : E.y.cls = RX30) : LK E 13 TX30 4 := by
  unfold LK; rw [e]; exact Or.inl q1527
theorem lk_X30_16 (E : Et) (e : E.y.cls = RX30) : LK E 16 TX30 5 := by
  unfold LK; rw [e]; exact Or.inl q1531
theorem lk_X30_28 (E : Et) (e : E.y.cls = RX30) : LK E 28 TX30 0 := by
  unfold LK; rw [e]; exact Or.inl q1516
theorem lk_X30_31 (E : Et) (e : E.y.cls = RX30) : LK E 31 TX30 1 := by
  unfold LK; rw [e]; exact Or.inl q1519
theorem lk_X30_35 (E : Et) (e : E.y.cls = RX30) : LK E 35 TX30 2 := by
  unfold LK; rw [e]; exact Or.inl q1522
theorem lk_X19_9 (E : Et) (e : E.y.cls = RX19) : LK E 9 TX19 0 := by
  unfold LK; rw [e]; exact Or.inl q955
theorem lk_X19_15 (E : Et) (e : E.y.cls = RX19) : LK E 15 TX19 1 := by
  unfold LK; rw [e]; exact Or.inl q957
theorem lk_X19_18 (E : Et) (e : E.y.cls = RX19) : LK E 18 TX19 2 := by
  unfold LK; rw [e]; exact Or.inl q959
theorem lk_X20_11 (E : Et) (e : E.y.cls = RX20) : LK E 11 TX20 5 := by
  unfold LK; rw [e]; exact Or.inl q1021
theorem lk_X20_22 (E : Et) (e : E.y.cls = RX20) : LK E 22 TX20 8 := by
  unfold LK; rw [e]; exact Or.inl q1026
theorem lk_X20_27 (E : Et) (e : E.y.cls = RX20) : LK E 27 TX20 6 := by
  unfold LK; rw [e]; exact Or.inl q1023
theorem lk_X20_35 (E : Et) (e : E.y.cls = RX20) : LK E 35 TX21 3 := by
  unfold LK; rw [e]; exact Or.inr ⟨_, List.mem_filter.mpr ⟨q996, rfl⟩⟩
theorem lk_X20_45 (E : Et) (e : E.y.cls = RX20) : LK E 45 TX21 5 := by
  unfold LK; rw [e]; exact Or.inr ⟨_, List.mem_filter.mpr ⟨q1001, rfl⟩⟩
theorem lk_X20_48 (E : Et) (e : E.y.cls = RX20) : LK E 48 TX21 4 := by
  unfold LK; rw [e]; exact Or.inr ⟨_, List.mem_filter.mpr ⟨q999, rfl⟩⟩
theorem lk_X20_51 (E : Et) (e : E.y.cls = RX20) : LK E 51 TX9 1 := by
  unfold LK; rw [e]; exact Or.inr ⟨_, List.mem_filter.mpr ⟨q614, rfl⟩⟩
theorem lk_X20_54 (E : Et) (e : E.y.cls = RX20) : LK E 54 TX9 0 := by
  unfold LK; rw [e]; exact Or.inr ⟨_, List.mem_filter.mpr ⟨q611, rfl⟩⟩
theorem lk_X20_58 (E : Et) (e : E.y.cls = RX20) : LK E 58 TX10 7 := by
  unfold LK; rw [e]; exact Or.inr ⟨_, List.mem_filter.mpr ⟨q576, rfl⟩⟩
theorem lk_X23_1 (E : Et) (e : E.y.cls = RX23) : LK E 1 TX23 3 := by
  unfold LK; rw [e]; exact Or.inl q2603
theorem lk_X23_7 (E : Et) (e : E.y.cls = RX23) : LK E 7 TX23 5 := by
  unfold LK; rw [e]; exact Or.inl q2605
theorem lk_X23_10 (E : Et) (e : E.y.cls = RX23) : LK E 10 TX23 9 := by
  unfold LK; rw [e]; exact Or.inl q2609
theorem lk_X23_13 (E : Et) (e : E.y.cls = RX23) : LK E 13 TX23 0 := by
  unfold LK; rw [e]; exact Or.inl q2600
theorem lk_X23_17 (E : Et) (e : E.y.cls = RX23) : LK E 17 TX23 4 := by
  unfold LK; rw [e]; exact Or.inl q2604
theorem lk_X23_27 (E : Et) (e : E.y.cls = RX23) : LK E 27 TX23 7 := by
  unfold LK; rw [e]; exact Or.inl q2607
theorem lk_X23_30 (E : Et) (e : E.y.cls = RX23) : LK E 30 TX23 8 := by
  unfold LK; rw [e]; exact Or.inl q2608
theorem lk_X23_34 (E : Et) (e : E.y.cls = RX23) : LK E 34 TX23 14 := by
  unfold LK; rw [e]; exact Or.inl q2614
theorem lk_X23_40 (E : Et) (e : E.y.cls = RX23) : LK E 40 TX23 15 := by
  unfold LK; rw [e]; exact Or.inl q2615
theorem lk_X23_44 (E : Et) (e : E.y.cls = RX23) : LK E 44 TX23 10 := by
  unfold LK; rw [e]; exact Or.inl q2610
theorem lk_X23_48 (E : Et) (e : E.y.cls = RX23) : LK E 48 TX23 11 := by
  unfold LK; rw [e]; exact Or.inl q2611
theorem lk_X23_51 (E : Et) (e : E.y.cls = RX23) : LK E 51 TX23 12 := by
  unfold LK; rw [e]; exact Or.inl q2612
theorem lk_X23_60 (E : Et) (e : E.y.cls = RX23) : LK E 60 TX23 13 := by
  unfold LK; rw [e]; exact Or.inl q2613
theorem lk_X23_71 (E : Et) (e : E.y.cls = RX23) : LK E 71 TX24 0 := by
  unfold LK; rw [e]; exact Or.inr ⟨_, List.mem_filter.mpr ⟨q2350, rfl⟩⟩
theorem lk_X23_74 (E : Et) (e : E.y.cls = RX23) : LK E 74 TX24 1 := by
  unfold LK; rw [e]; exact Or.inr ⟨_, List.mem_filter.mpr ⟨q2352, rfl⟩⟩
theorem lk_X23_77 (E : Et) (e : E.y.cls = RX23) : LK E 77 TX24 2 := by
  unfold LK; rw [e]; exact Or.inr ⟨_, List.mem_filter.mpr ⟨q2354, rfl⟩⟩
theorem lk_X23_84 (E : Et) (e : E.y.cls = RX23) : LK E 84 TX24 3 := by
  unfold LK; rw [e]; exact Or.inr ⟨_, List.mem_filter.mpr ⟨q2356, rfl⟩⟩
theorem lk_X23_87 (E : Et) (e : E.y.cls = RX23) : LK E 87 TX24 4 := by
  unfold LK; rw [e]; exact Or.inr ⟨_, List.mem_filter.mpr ⟨q2358, rfl⟩⟩
theorem lk_X23_94 (E : Et) (e : E.y.cls = RX23) : LK E 94 TX23 18 := by
  unfold LK; rw [e]; exact Or.inl q2618
theorem lk_X23_109 (E : Et) (e : E.y.cls = RX23) : LK E 109 TX29 5 := by
  unfold LK; rw [e]; exact Or.inr ⟨_, List.mem_filter.mpr ⟨q2548, rfl⟩⟩
theorem lk_X23_112 (E : Et) (e : E.y.cls = RX23) : LK E 112 TX29 9 := by
  unfold LK; rw [e]; exact Or.inr ⟨_, List.mem_filter.mpr ⟨q2553, rfl⟩⟩
theorem lk_X23_189 (E : Et) (e : E.y.cls = RX23) : LK E 189 TX23 6 := by
  unfold LK; rw [e]; exact Or.inl q2606
theorem lk_X23_212 (E : Et) (e : E.y.cls = RX23) : LK E 212 TX29 4 := by
  unfold LK; rw [e]; exact Or.inr ⟨_, List.mem_filter.mpr ⟨q2547, rfl⟩⟩
theorem lk_X23_215 (E : Et) (e : E.y.cls = RX23) : LK E 215 TX23 23 := by
  unfold LK; rw [e]; exact Or.inl q2623
theorem lk_X23_231 (E : Et) (e : E.y.cls = RX23) : LK E 231 TX23 16 := by
  unfold LK; rw [e]; exact Or.inl q2616
theorem lk_X23_247 (E : Et) (e : E.y.cls = RX23) : LK E 247 TX25 5 := by
  unfold LK; rw [e]; exact Or.inr ⟨_, List.mem_filter.mpr ⟨q2386, rfl⟩⟩
theorem lk_X23_250 (E : Et) (e : E.y.cls = RX23) : LK E 250 TX23 27 := by
  unfold LK; rw [e]; exact Or.inl q2627
theorem lk_X23_253 (E : Et) (e : E.y.cls = RX23) : LK E 253 TX23 28 := by
  unfold LK; rw [e]; exact Or.inl q2628
theorem lk_X23_261 (E : Et) (e : E.y.cls = RX23) : LK E 261 TX23 26 := by
  unfold LK; rw [e]; exact Or.inl q2626
theorem lk_X23_264 (E : Et) (e : E.y.cls = RX23) : LK E 264 TX23 25 := by
  unfold LK; rw [e]; exact Or.inl q2625
theorem lk_X23_271 (E : Et) (e : E.y.cls = RX23) : LK E 271 TX23 29 := by
  unfold LK; rw [e]; exact Or.inl q2629
theorem lk_X23_274 (E : Et) (e : E.y.cls = RX23) : LK E 274 TX23 30 := by
  unfold LK; rw [e]; exact Or.inl q2630
theorem lk_X23_277 (E : Et) (e : E.y.cls = RX23) : LK E 277 TX23 31 := by
  unfold LK; rw [e]; exact Or.inl q2631
theorem lk_X23_280 (E : Et) (e : E.y.cls = RX23) : LK E 280 TX23 32 := by
  unfold LK; rw [e]; exact Or.inl q2632
theorem lk_X23_285 (E : Et) (e : E.y.cls = RX23) : LK E 285 TX23 34 := by
  unfold LK; rw [e]; exact Or.inl q2634
theorem lk_X23_296 (E : Et) (e : E.y.cls = RX23) : LK E 296 TX23 35 := by
  unfold LK; rw [e]; exact Or.inl q2635
theorem lk_X23_300 (E : Et) (e : E.y.cls = RX23) : LK E 300 TX23 33 := by
  unfold LK; rw [e]; exact Or.inl q2633
theorem lk_X23_303 (E : Et) (e : E.y.cls = RX23) : LK E 303 TX23 1 := by
  unfold LK; rw [e]; exact Or.inl q2601
theorem lk_X23_309 (E : Et) (e : E.y.cls = RX23) : LK E 309 TX23 43 := by
  unfold LK; rw [e]; exact Or.inl q2643
theorem lk_X23_312 (E : Et) (e : E.y.cls = RX23) : LK E 312 TX23 45 := by
  unfold LK; rw [e]; exact Or.inl q2645
theorem lk_X23_315 (E : Et) (e : E.y.cls = RX23) : LK E 315 TX23 44 := by
  unfold LK; rw [e]; exact Or.inl q2644
theorem lk_X23_322 (E : Et) (e : E.y.cls = RX23) : LK E 322 TX23 22 := by
  unfold LK; rw [e]; exact Or.inl q2622
theorem lk_X23_325 (E : Et) (e : E.y.cls = RX23) : LK E 325 TX23 40 := by
  unfold LK; rw [e]; exact Or.inl q2640
theorem lk_X23_328 (E : Et) (e : E.y.cls = RX23) : LK E 328 TX23 36 := by
  unfold LK; rw [e]; exact Or.inl q2636
theorem lk_X23_334 (E : Et) (e : E.y.cls = RX23) : LK E 334 TX23 46 := by
  unfold LK; rw [e]; exact Or.inl q2646
theorem lk_X23_347 (E : Et) (e : E.y.cls = RX23) : LK E 347 TX23 41 := by
  unfold LK; rw [e]; exact Or.inl q2641
theorem lk_X23_350 (E : Et) (e : E.y.cls = RX23) : LK E 350 TX23 42 := by
  unfold LK; rw [e]; exact Or.inl q2642
theorem lk_X23_369 (E : Et) (e : E.y.cls = RX23) : LK E 369 TX23 48 := by
  unfold LK; rw [e]; exact Or.inl q2647
theorem lk_X23_373 (E : Et) (e : E.y.cls = RX23) : LK E 373 TX23 17 := by
  unfold LK; rw [e]; exact Or.inl q2617
theorem lk_X23_386 (E : Et) (e : E.y.cls = RX23) : LK E 386 TX26 3 := by
  unfold LK; rw [e]; exact Or.inr ⟨_, List.mem_filter.mpr ⟨q2459, rfl⟩⟩
theorem lk_X23_389 (E : Et) (e : E.y.cls = RX23) : LK E 389 TX26 4 := by
  unfold LK; rw [e]; exact Or.inr ⟨_, List.mem_filter.mpr ⟨q2461, rfl⟩⟩
theorem lk_X23_411 (E : Et) (e : E.y.cls = RX23) : LK E 411 TX23 24 := by
  unfold LK; rw [e]; exact Or.inl q2624
theorem lk_X23_441 (E : Et) (e : E.y.cls = RX23) : LK E 441 TX23 37 := by
  unfold LK; rw [e]; exact Or.inl q2637
theorem lk_X23_444 (E : Et) (e : E.y.cls = RX23) : LK E 444 TX23 38 := by
  unfold LK; rw [e]; exact Or.inl q2638
theorem lk_X23_447 (E : Et) (e : E.y.cls = RX23) : LK E 447 TX23 39 := by
  unfold LK; rw [e]; exact Or.inl q2639
theorem lk_X23_519 (E : Et) (e : E.y.cls = RX23) : LK E 519 TX23 2 := by
  unfold LK; rw [e]; exact Or.inl q2602
theorem lk_X23_531 (E : Et) (e : E.y.cls = RX23) : LK E 531 TX23 19 := by
  unfold LK; rw [e]; exact Or.inl q2619
theorem lk_X23_535 (E : Et) (e : E.y.cls = RX23) : LK E 535 TX23 49 := by
  unfold LK; rw [e]; exact Or.inl q2648
theorem lk_X23_538 (E : Et) (e : E.y.cls = RX23) : LK E 538 TX23 54 := by
  unfold LK; rw [e]; exact Or.inl q2653
theorem lk_X23_541 (E : Et) (e : E.y.cls = RX23) : LK E 541 TX23 55 := by
  unfold LK; rw [e]; exact Or.inl q2654
theorem lk_X23_544 (E : Et) (e : E.y.cls = RX23) : LK E 544 TX23 56 := by
  unfold LK; rw [e]; exact Or.inl q2655
theorem lk_X23_547 (E : Et) (e : E.y.cls = RX23) : LK E 547 TX23 57 := by
  unfold LK; rw [e]; exact Or.inl q2656
theorem lk_X23_550 (E : Et) (e : E.y.cls = RX23) : LK E 550 TX23 58 := by
  unfold LK; rw [e]; exact Or.inl q2657
theorem lk_X23_553 (E : Et) (e : E.y.cls = RX23) : LK E 553 TX23 59 := by
  unfold LK; rw [e]; exact Or.inl q2658
theorem lk_X23_556 (E : Et) (e : E.y.cls = RX23) : LK E 556 TX23 60 := by
  unfold LK; rw [e]; exact Or.inl q2659
theorem lk_X23_559 (E : Et) (e : E.y.cls = RX23) : LK E 559 TX23 61 := by
  unfold LK; rw [e]; exact Or.inl q2660
theorem lk_X23_562 (E : Et) (e : E.y.cls = RX23) : LK E 562 TX23 62 := by
  unfold LK; rw [e]; exact Or.inl q2661
theorem lk_X23_565 (E : Et) (e : E.y.cls = RX23) : LK E 565 TX23 63 := by
  unfold LK; rw [e]; exact Or.inl q2662
theorem lk_X23_569 (E : Et) (e : E.y.cls = RX23) : LK E 569 TX23 64 := by
  unfold LK; rw [e]; exact Or.inl q2663
theorem lk_X23_572 (E : Et) (e : E.y.cls = RX23) : LK E 572 TX23 65 := by
  unfold LK; rw [e]; exact Or.inl q2664
theorem lk_X23_575 (E : Et) (e : E.y.cls = RX23) : LK E 575 TX23 66 := by
  unfold LK; rw [e]; exact Or.inl q2665
theorem lk_X23_578 (E : Et) (e : E.y.cls = RX23) : LK E 578 TX23 67 := by
  unfold LK; rw [e]; exact Or.inl q2666
theorem lk_X23_581 (E : Et) (e : E.y.cls = RX23) : LK E 581 TX23 68 := by
  unfold LK; rw [e]; exact Or.inl q2667
theorem lk_X23_584 (E : Et) (e : E.y.cls = RX23) : LK E 584 TX23 69 := by
  unfold LK; rw [e]; exact Or.inl q2668
theorem lk_X23_587 (E : Et) (e : E.y.cls = RX23) : LK E 587 TX23 70 := by
  unfold LK; rw [e]; exact Or.inl q2669
theorem lk_X23_590 (E : Et) (e : E.y.cls = RX23) : LK E 590 TX23 71 := by
  unfold LK; rw [e]; exact Or.inl q2670
theorem lk_X23_593 (E : Et) (e : E.y.cls = RX23) : LK E 593 TX23 72 := by
  unfold LK; rw [e]; exact Or.inl q2671
theorem lk_X23_596 (E : Et) (e : E.y.cls = RX23) : LK E 596 TX23 73 := by
  unfold LK; rw [e]; exact Or.inl q2672
theorem lk_X23_599 (E : Et) (e : E.y.cls = RX23) : LK E 599 TX23 74 := by
  unfold LK; rw [e]; exact Or.inl q2673
theorem lk_X23_602 (E : Et) (e : E.y.cls = RX23) : LK E 602 TX23 76 := by
  unfold LK; rw [e]; exact Or.inl q2675
theorem lk_X23_605 (E : Et) (e : E.y.cls = RX23) : LK E 605 TX23 77 := by
  unfold LK; rw [e]; exact Or.inl q2676
theorem lk_X23_609 (E : Et) (e : E.y.cls = RX23) : LK E 609 TX23 50 := by
  unfold LK; rw [e]; exact Or.inl q2649
theorem lk_X23_612 (E : Et) (e : E.y.cls = RX23) : LK E 612 TX23 20 := by
  unfold LK; rw [e]; exact Or.inl q2620
theorem lk_X23_615 (E : Et) (e : E.y.cls = RX23) : LK E 615 TX23 21 := by
  unfold LK; rw [e]; exact Or.inl q2621
theorem lk_X23_626 (E : Et) (e : E.y.cls = RX23) : LK E 626 TX23 52 := by
  unfold LK; rw [e]; exact Or.inl q2651
theorem lk_X23_628 (E : Et) (e : E.y.cls = RX23) : LK E 628 TX23 53 := by
  unfold LK; rw [e]; exact Or.inl q2652
theorem lk_X23_640 (E : Et) (e : E.y.cls = RX23) : LK E 640 TX23 51 := by
  unfold LK; rw [e]; exact Or.inl q2650
theorem lk_X23_659 (E : Et) (e : E.y.cls = RX23) : LK E 659 TX24 5 := by
  unfold LK; rw [e]; exact Or.inr ⟨_, List.mem_filter.mpr ⟨q2360, rfl⟩⟩
theorem lk_X23_684 (E : Et) (e : E.y.cls = RX23) : LK E 684 TX23 75 := by
  unfold LK; rw [e]; exact Or.inl q2674
theorem lk_X23_690 (E : Et) (e : E.y.cls = RX23) : LK E 690 TX27 1 := by
  unfold LK; rw [e]; exact Or.inr ⟨_, List.mem_filter.mpr ⟨q2482, rfl⟩⟩
theorem lk_X23_691 (E : Et) (e : E.y.cls = RX23) : LK E 691 TX27 0 := by
  unfold LK; rw [e]; exact Or.inr ⟨_, List.mem_filter.mpr ⟨q2480, rfl⟩⟩
theorem lk_X23_706 (E : Et) (e : E.y.cls = RX23) : LK E 706 TX29 1 := by
  unfold LK; rw [e]; exact Or.inr ⟨_, List.mem_filter.mpr ⟨q2543, rfl⟩⟩
theorem lk_X23_709 (E : Et) (e : E.y.cls = RX23) : LK E 709 TX29 0 := by
  unfold LK; rw [e]; exact Or.inr ⟨_, List.mem_filter.mpr ⟨q2541, rfl⟩⟩
theorem lk_X27_7 (E : Et) (e : E.y.cls = RX27) : LK E 7 TX27 0 := by
  unfold LK; rw [e]; exact Or.inl q2479
theorem lk_X27_13 (E : Et) (e : E.y.cls = RX27) : LK E 13 TX27 2 := by
  unfold LK; rw [e]; exact Or.inl q2483
theorem lk_X27_17 (E : Et) (e : E.y.cls = RX27) : LK E 17 TX27 3 := by
  unfold LK; rw [e]; exact Or.inl q2484
theorem lk_X27_20 (E : Et) (e : E.y.cls = RX27) : LK E 20 TX27 1 := by
  unfold LK; rw [e]; exact Or.inl q2481
theorem lk_X25_7 (E : Et) (e : E.y.cls = RX25) : LK E 7 TX25 3 := by
  unfold LK; rw [e]; exact Or.inl q2384
theorem lk_X25_13 (E : Et) (e : E.y.cls = RX25) : LK E 13 TX25 6 := by
  unfold LK; rw [e]; exact Or.inl q2388
theorem lk_X25_17 (E : Et) (e : E.y.cls = RX25) : LK E 17 TX25 7 := by
  unfold LK; rw [e]; exact Or.inl q2389
theorem lk_X25_21 (E : Et) (e : E.y.cls = RX25) : LK E 21 TX25 8 := by
  unfold LK; rw [e]; exact Or.inl q2390
theorem lk_X25_24 (E : Et) (e : E.y.cls = RX25) : LK E 24 TX25 9 := by
  unfold LK; rw [e]; exact Or.inl q2391
theorem lk_X25_27 (E : Et) (e : E.y.cls = RX25) : LK E 27 TX25 10 := by
  unfold LK; rw [e]; exact Or.inl q2392
theorem lk_X25_30 (E : Et) (e : E.y.cls = RX25) : LK E 30 TX25 11 := by
  unfold LK; rw [e]; exact Or.inl q2393
theorem lk_X25_33 (E : Et) (e : E.y.cls = RX25) : LK E 33 TX25 12 := by
  unfold LK; rw [e]; exact Or.inl q2394
theorem lk_X25_36 (E : Et) (e : E.y.cls = RX25) : LK E 36 TX25 13 := by
  unfold LK; rw [e]; exact Or.inl q2395
theorem lk_X25_39 (E : Et) (e : E.y.cls = RX25) : LK E 39 TX25 15 := by
  unfold LK; rw [e]; exact Or.inl q2397
theorem lk_X25_42 (E : Et) (e : E.y.cls = RX25) : LK E 42 TX25 16 := by
  unfold LK; rw [e]; exact Or.inl q2398
theorem lk_X25_45 (E : Et) (e : E.y.cls = RX25) : LK E 45 TX25 17 := by
  unfold LK; rw [e]; exact Or.inl q2399
theorem lk_X25_48 (E : Et) (e : E.y.cls = RX25) : LK E 48 TX25 18 := by
  unfold LK; rw [e]; exact Or.inl q2400
theorem lk_X25_72 (E : Et) (e : E.y.cls = RX25) : LK E 72 TX25 0 := by
  unfold LK; rw [e]; exact Or.inl q2381
theorem lk_X25_92 (E : Et) (e : E.y.cls = RX25) : LK E 92 TX25 14 := by
  unfold LK; rw [e]; exact Or.inl q2396
theorem lk_X25_99 (E : Et) (e : E.y.cls = RX25) : LK E 99 TX25 19 := by
  unfold LK; rw [e]; exact Or.inl q2401
theorem lk_X25_103 (E : Et) (e : E.y.cls = RX25) : LK E 103 TX25 20 := by
  unfold LK; rw [e]; exact Or.inl q2402
theorem lk_X25_106 (E : Et) (e : E.y.cls = RX25) : LK E 106 TX25 21 := by
  unfold LK; rw [e]; exact Or.inl q2403
theorem lk_X25_136 (E : Et) (e : E.y.cls = RX25) : LK E 136 TX25 2 := by
  unfold LK; rw [e]; exact Or.inl q2383
theorem lk_X25_176 (E : Et) (e : E.y.cls = RX25) : LK E 176 TX25 1 := by
  unfold LK; rw [e]; exact Or.inl q2382
theorem lk_X25_231 (E : Et) (e : E.y.cls = RX25) : LK E 231 TX25 4 := by
  unfold LK; rw [e]; exact Or.inl q2385
theorem lk_X25_251 (E : Et) (e : E.y.cls = RX25) : LK E 251 TX25 5 := by
  unfold LK; rw [e]; exact Or.inl q2387
theorem lk_X28_7 (E : Et) (e : E.y.cls = RX28) : LK E 7 TX28 0 := by
  unfold LK; rw [e]; exact Or.inl q2500
theorem lk_X28_13 (E : Et) (e : E.y.cls = RX28) : LK E 13 TX28 1 := by
  unfold LK; rw [e]; exact Or.inl q2501
theorem lk_X28_16 (E : Et) (e : E.y.cls = RX28) : LK E 16 TX28 2 := by
  unfold LK; rw [e]; exact Or.inl q2502
theorem lk_X28_20 (E : Et) (e : E.y.cls = RX28) : LK E 20 TX28 3 := by
  unfold LK; rw [e]; exact Or.inl q2503
theorem lk_X28_23 (E : Et) (e : E.y.cls = RX28) : LK E 23 TX28 4 := by
  unfold LK; rw [e]; exact Or.inl q2504
theorem lk_X28_26 (E : Et) (e : E.y.cls = RX28) : LK E 26 TX28 6 := by
  unfold LK; rw [e]; exact Or.inl q2506
theorem lk_X28_29 (E : Et) (e : E.y.cls = RX28) : LK E 29 TX28 7 := by
  unfold LK; rw [e]; exact Or.inl q2507
theorem lk_X28_32 (E : Et) (e : E.y.cls = RX28) : LK E 32 TX28 8 := by
  unfold LK; rw [e]; exact Or.inl q2508
theorem lk_X28_35 (E : Et) (e : E.y.cls = RX28) : LK E 35 TX28 10 := by
  unfold LK; rw [e]; exact Or.inl q2510
theorem lk_X28_39 (E : Et) (e : E.y.cls = RX28) : LK E 39 TX28 5 := by
  unfold LK; rw [e]; exact Or.inl q2505
theorem lk_X28_79 (E : Et) (e : E.y.cls = RX28) : LK E 79 TX28 9 := by
  unfold LK; rw [e]; exact Or.inl q2509
theorem lk_X24_7 (E : Et) (e : E.y.cls = RX24) : LK E 7 TX24 0 := by
  unfold LK; rw [e]; exact Or.inl q2349
theorem lk_X24_13 (E : Et) (e : E.y.cls = RX24) : LK E 13 TX24 1 := by
  unfold LK; rw [e]; exact Or.inl q2351
theorem lk_X24_17 (E : Et) (e : E.y.cls = RX24) : LK E 17 TX24 2 := by
  unfold LK; rw [e]; exact Or.inl q2353
theorem lk_X24_20 (E : Et) (e : E.y.cls = RX24) : LK E 20 TX24 3 := by
  unfold LK; rw [e]; exact Or.inl q2355
theorem lk_X24_24 (E : Et) (e : E.y.cls = RX24) : LK E 24 TX24 4 := by
  unfold LK; rw [e]; exact Or.inl q2357
theorem lk_X24_27 (E : Et) (e : E.y.cls = RX24) : LK E 27 TX24 5 := by
  unfold LK; rw [e]; exact Or.inl q2359
theorem lk_X29_7 (E : Et) (e : E.y.cls = RX29) : LK E 7 TX29 0 := by
  unfold LK; rw [e]; exact Or.inl q2540
theorem lk_X29_13 (E : Et) (e : E.y.cls = RX29) : LK E 13 TX29 11 := by
  unfold LK; rw [e]; exact Or.inl q2556
theorem lk_X29_17 (E : Et) (e : E.y.cls = RX29) : LK E 17 TX29 12 := by
  unfold LK; rw [e]; exact Or.inl q2557
theorem lk_X29_20 (E : Et) (e : E.y.cls = RX29) : LK E 20 TX29 13 := by
  unfold LK; rw [e]; exact Or.inl q2558
theorem lk_X29_23 (E : Et) (e : E.y.cls = RX29) : LK E 23 TX29 14 := by
  unfold LK; rw [e]; exact Or.inl q2559
theorem lk_X29_26 (E : Et) (e : E.y.cls = RX29) : LK E 26 TX29 15 := by
  unfold LK; rw [e]; exact Or.inl q2560
theorem lk_X29_29 (E : Et) (e : E.y.cls = RX29) : LK E 29 TX29 16 := by
  unfold LK; rw [e]; exact Or.inl q2561
theorem lk_X29_32 (E : Et) (e : E.y.cls = RX29) : LK E 32 TX29 17 := by
  unfold LK; rw [e]; exact Or.inl q2562
theorem lk_X29_36 (E : Et) (e : E.y.cls = RX29) : LK E 36 TX29 3 := by
  unfold LK; rw [e]; exact Or.inl q2545
theorem lk_X29_40 (E : Et) (e : E.y.cls = RX29) : LK E 40 TX29 4 := by
  unfold LK; rw [e]; exact Or.inl q2546
theorem lk_X29_43 (E : Et) (e : E.y.cls = RX29) : LK E 43 TX29 1 := by
  unfold LK; rw [e]; exact Or.inl q2542
theorem lk_X29_50 (E : Et) (e : E.y.cls = RX29) : LK E 50 TX29 2 := by
  unfold LK; rw [e]; exact Or.inl q2544
theorem lk_X29_72 (E : Et) (e : E.y.cls = RX29) : LK E 72 TX29 10 := by
  unfold LK; rw [e]; exact Or.inl q2555
theorem lk_X29_92 (E : Et) (e : E.y.cls = RX29) : LK E 92 TX29 5 := by
  unfold LK; rw [e]; exact Or.inl q2549
theorem lk_X29_95 (E : Et) (e : E.y.cls = RX29) : LK E 95 TX29 6 := by
  unfold LK; rw [e]; exact Or.inl q2550
theorem lk_X29_98 (E : Et) (e : E.y.cls = RX29) : LK E 98 TX29 7 := by
  unfold LK; rw [e]; exact Or.inl q2551
theorem lk_X29_101 (E : Et) (e : E.y.cls = RX29) : LK E 101 TX29 8 := by
  unfold LK; rw [e]; exact Or.inl q2552
theorem lk_X29_104 (E : Et) (e : E.y.cls = RX29) : LK E 104 TX29 9 := by
  unfold LK; rw [e]; exact Or.inl q2554
theorem lk_X26_7 (E : Et) (e : E.y.cls = RX26) : LK E 7 TX26 0 := by
  unfold LK; rw [e]; exact Or.inl q2455
theorem lk_X26_13 (E : Et) (e : E.y.cls = RX26) : LK E 13 TX26 1 := by
  unfold LK; rw [e]; exact Or.inl q2456
theorem lk_X26_16 (E : Et) (e : E.y.cls = RX26) : LK E 16 TX26 2 := by
  unfold LK; rw [e]; exact Or.inl q2457
theorem lk_X26_25 (E : Et) (e : E.y.cls = RX26) : LK E 25 TX26 3 := by
  unfold LK; rw [e]; exact Or.inl q2458
theorem lk_X26_29 (E : Et) (e : E.y.cls = RX26) : LK E 29 TX26 4 := by
  unfold LK; rw [e]; exact Or.inl q2460
theorem ml_X1_45 (E : Et) (e : E.y.cls = RX1) : ML E 45 e_X2_init := by
  unfold ML; rw [e]; exact Or.inr ⟨_, List.mem_filter.mpr ⟨q316, rfl⟩⟩
theorem ml_X1_54 (E : Et) (e : E.y.cls = RX1) : ML E 54 e_X9_init := by
  unfold ML; rw [e]; exact Or.inl q555
theorem ml_X1_63 (E : Et) (e : E.y.cls = RX1) : ML E 63 e_X11_init := by
  unfold ML; rw [e]; exact Or.inr ⟨_, List.mem_filter.mpr ⟨q623, rfl⟩⟩
theorem ml_X1_80 (E : Et) (e : E.y.cls = RX1) : ML E 80 e_X12_init := by
  unfold ML; rw [e]; exact Or.inr ⟨_, List.mem_filter.mpr ⟨q635, rfl⟩⟩
theorem ml_X1_87 (E : Et) (e : E.y.cls = RX1) : ML E 87 e_X13_init := by
  unfold ML; rw [e]; exact Or.inr ⟨_, List.mem_filter.mpr ⟨q738, rfl⟩⟩
theorem ml_X1_97 (E : Et) (e : E.y.cls = RX1) : ML E 97 e_X15_init := by
  unfold ML; rw [e]; exact Or.inr ⟨_, List.mem_filter.mpr ⟨q831, rfl⟩⟩
theorem ml_X1_109 (E : Et) (e : E.y.cls = RX1) : ML E 109 e_J4_init := by
  unfold ML; rw [e]; exact Or.inl q948
theorem ml_X1_117 (E : Et) (e : E.y.cls = RX1) : ML E 117 e_X19_init := by
  unfold ML; rw [e]; exact Or.inr ⟨_, List.mem_filter.mpr ⟨q951, rfl⟩⟩
theorem ml_X1_130 (E : Et) (e : E.y.cls = RX1) : ML E 130 e_J5_min := by
  unfold ML; rw [e]; exact Or.inl q968
theorem ml_X1_136 (E : Et) (e : E.y.cls = RX1) : ML E 136 e_J5_max := by
  unfold ML; rw [e]; exact Or.inl q971
theorem ml_X1_145 (E : Et) (e : E.y.cls = RX1) : ML E 145 e_X20_init := by
  unfold ML; rw [e]; exact Or.inl q977
theorem ml_X1_146 (E : Et) (e : E.y.cls = RX1) : ML E 146 e_X22_init := by
  unfold ML; rw [e]; exact Or.inr ⟨_, List.mem_filter.mpr ⟨q1057, rfl⟩⟩
theorem ml_X1_159 (E : Et) (e : E.y.cls = RX1) : ML E 159 e_X12_readInto := by
  unfold ML; rw [e]; exact Or.inl q1158
theorem ml_X1_173 (E : Et) (e : E.y.cls = RX1) : ML E 173 e_X1_stop := by
  unfold ML; rw [e]; exact Or.inl q1446
theorem ml_X1_198 (E : Et) (e : E.y.cls = RX1) : ML E 198 e_X9_find := by
  unfold ML; rw [e]; exact Or.inl q1486
theorem ml_X1_208 (E : Et) (e : E.y.cls = RX1) : ML E 208 e_X1_need := by
  unfold ML; rw [e]; exact Or.inl q1478
theorem ml_X1_212 (E : Et) (e : E.y.cls = RX1) : ML E 212 e_X1_before := by
  unfold ML; rw [e]; exact Or.inl q1494
theorem ml_X1_229 (E : Et) (e : E.y.cls = RX1) : ML E 229 e_X10_place := by
  unfold ML; rw [e]; exact Or.inl q1498
theorem ml_X1_256 (E : Et) (e : E.y.cls = RX1) : ML E 256 e_X11_copy := by
  unfold ML; rw [e]; exact Or.inl q1502
theorem ml_X1_266 (E : Et) (e : E.y.cls = RX1) : ML E 266 e_X1_modulesThere := by
  unfold ML; rw [e]; exact Or.inl q1551
theorem ml_X1_273 (E : Et) (e : E.y.cls = RX1) : ML E 273 e_X1_ask := by
  unfold ML; rw [e]; exact Or.inl q1482
theorem ml_X1_290 (E : Et) (e : E.y.cls = RX1) : ML E 290 e_X1_publishing := by
  unfold ML; rw [e]; exact Or.inl q1801
theorem ml_X1_297 (E : Et) (e : E.y.cls = RX1) : ML E 297 e_X1_module := by
  unfold ML; rw [e]; exact Or.inl q1621
theorem ml_X1_335 (E : Et) (e : E.y.cls = RX1) : ML E 335 e_X5_get := by
  unfold ML; rw [e]; exact Or.inl q1817
theorem ml_X1_348 (E : Et) (e : E.y.cls = RX1) : ML E 348 e_X1_enter := by
  unfold ML; rw [e]; exact Or.inl q1645
theorem ml_X1_365 (E : Et) (e : E.y.cls = RX1) : ML E 365 e_X11_number := by
  unfold ML; rw [e]; exact Or.inl q1574
theorem ml_X1_394 (E : Et) (e : E.y.cls = RX1) : ML E 394 e_X1_faulty := by
  unfold ML; rw [e]; exact Or.inl q1806
theorem ml_X1_400 (E : Et) (e : E.y.cls = RX1) : ML E 400 e_X1_link := by
  unfold ML; rw [e]; exact Or.inl q1810
theorem ml_X1_404 (E : Et) (e : E.y.cls = RX1) : ML E 404 e_X1_lookAt := by
  unfold ML; rw [e]; exact Or.inl q1832
theorem ml_X1_436 (E : Et) (e : E.y.cls = RX1) : ML E 436 e_X1_isLike := by
  unfold ML; rw [e]; exact Or.inl q1814
theorem ml_X1_440 (E : Et) (e : E.y.cls = RX1) : ML E 440 e_X1_isSameType := by
  unfold ML; rw [e]; exact Or.inl q1818
theorem ml_X1_446 (E : Et) (e : E.y.cls = RX1) : ML E 446 e_X1_moduleOf := by
  unfold ML; rw [e]; exact Or.inl q1822
theorem ml_X1_450 (E : Et) (e : E.y.cls = RX1) : ML E 450 e_X1_numberOf := by
  unfold ML; rw [e]; exact Or.inl q1829
theorem ml_X1_453 (E : Et) (e : E.y.cls = RX1) : ML E 453 e_X3_structureAt := by
  unfold ML; rw [e]; exact Or.inl q1825
theorem ml_X1_457 (E : Et) (e : E.y.cls = RX1) : ML E 457 e_X13_doesBear := by
  unfold ML; rw [e]; exact Or.inl q1836
theorem ml_X1_461 (E : Et) (e : E.y.cls = RX1) : ML E 461 e_X1_depthOf := by
  unfold ML; rw [e]; exact Or.inl q1868
theorem ml_X1_465 (E : Et) (e : E.y.cls = RX1) : ML E 465 e_X13_check := by
  unfold ML; rw [e]; exact Or.inl q1873
theorem ml_X1_473 (E : Et) (e : E.y.cls = RX1) : ML E 473 e_X31_head := by
  unfold ML; rw [e]; exact Or.inl q1871
theorem ml_X1_479 (E : Et) (e : E.y.cls = RX1) : ML E 479 e_X31_rest := by
  unfold ML; rw [e]; exact Or.inl q1872
theorem ml_X1_490 (E : Et) (e : E.y.cls = RX1) : ML E 490 e_X1_push := by
  unfold ML; rw [e]; exact Or.inl q1466
theorem ml_X1_494 (E : Et) (e : E.y.cls = RX1) : ML E 494 e_X1_pushNumber := by
  unfold ML; rw [e]; exact Or.inl q1570
theorem ml_X1_498 (E : Et) (e : E.y.cls = RX1) : ML E 498 e_X1_pop := by
  unfold ML; rw [e]; exact Or.inl q1454
theorem ml_X1_502 (E : Et) (e : E.y.cls = RX1) : ML E 502 e_X11_drop := by
  unfold ML; rw [e]; exact Or.inl q1458
theorem ml_X1_506 (E : Et) (e : E.y.cls = RX1) : ML E 506 e_X1_top := by
  unfold ML; rw [e]; exact Or.inl q1561
theorem ml_X1_519 (E : Et) (e : E.y.cls = RX1) : ML E 519 e_X19_set := by
  unfold ML; rw [e]; exact Or.inl q1657
theorem ml_X1_523 (E : Et) (e : E.y.cls = RX1) : ML E 523 e_X19_add := by
  unfold ML; rw [e]; exact Or.inl q1661
theorem ml_X1_526 (E : Et) (e : E.y.cls = RX1) : ML E 526 e_X19_subtract := by
  unfold ML; rw [e]; exact Or.inl q1669
theorem ml_X1_529 (E : Et) (e : E.y.cls = RX1) : ML E 529 e_X19_multiply := by
  unfold ML; rw [e]; exact Or.inl q1676
theorem ml_X1_532 (E : Et) (e : E.y.cls = RX1) : ML E 532 e_X19_divide := by
  unfold ML; rw [e]; exact Or.inl q1687
theorem ml_X1_536 (E : Et) (e : E.y.cls = RX1) : ML E 536 e_X19_bits := by
  unfold ML; rw [e]; exact Or.inl q1692
theorem ml_X1_539 (E : Et) (e : E.y.cls = RX1) : ML E 539 e_X19_up := by
  unfold ML; rw [e]; exact Or.inl q1698
theorem ml_X1_542 (E : Et) (e : E.y.cls = RX1) : ML E 542 e_X19_down := by
  unfold ML; rw [e]; exact Or.inl q1702
theorem ml_X1_545 (E : Et) (e : E.y.cls = RX1) : ML E 545 e_X19_cut := by
  unfold ML; rw [e]; exact Or.inl q1706
theorem ml_X1_549 (E : Et) (e : E.y.cls = RX1) : ML E 549 e_X19_fits := by
  unfold ML; rw [e]; exact Or.inl q1711
theorem ml_X1_553 (E : Et) (e : E.y.cls = RX1) : ML E 553 e_X1_dropTop := by
  unfold ML; rw [e]; exact Or.inl q1450
theorem ml_X1_558 (E : Et) (e : E.y.cls = RX1) : ML E 558 e_X30_size := by
  unfold ML; rw [e]; exact Or.inl q1474
theorem ml_X1_561 (E : Et) (e : E.y.cls = RX1) : ML E 561 e_X1_pay := by
  unfold ML; rw [e]; exact Or.inl q1441
theorem ml_X1_564 (E : Et) (e : E.y.cls = RX1) : ML E 564 e_X19_compare := by
  unfold ML; rw [e]; exact Or.inl q1719
theorem ml_X1_568 (E : Et) (e : E.y.cls = RX1) : ML E 568 e_X30_isSame := by
  unfold ML; rw [e]; exact Or.inl q1720
theorem ml_X1_572 (E : Et) (e : E.y.cls = RX1) : ML E 572 e_X1_pushTruth := by
  unfold ML; rw [e]; exact Or.inl q1580
theorem ml_X1_576 (E : Et) (e : E.y.cls = RX1) : ML E 576 e_X1_reckon := by
  unfold ML; rw [e]; exact Or.inl q1653
theorem ml_X1_579 (E : Et) (e : E.y.cls = RX1) : ML E 579 e_X1_compare := by
  unfold ML; rw [e]; exact Or.inl q1715
theorem ml_X1_581 (E : Et) (e : E.y.cls = RX1) : ML E 581 e_X1_cast := by
  unfold ML; rw [e]; exact Or.inl q1724
theorem ml_X1_584 (E : Et) (e : E.y.cls = RX1) : ML E 584 e_X11_take := by
  unfold ML; rw [e]; exact Or.inl q1588
theorem ml_X1_590 (E : Et) (e : E.y.cls = RX1) : ML E 590 e_X30_part := by
  unfold ML; rw [e]; exact Or.inl q1593
theorem ml_X1_593 (E : Et) (e : E.y.cls = RX1) : ML E 593 e_X11_replace := by
  unfold ML; rw [e]; exact Or.inl q1597
theorem ml_X1_597 (E : Et) (e : E.y.cls = RX1) : ML E 597 e_X1_gather := by
  unfold ML; rw [e]; exact Or.inl q1605
theorem ml_X1_607 (E : Et) (e : E.y.cls = RX1) : ML E 607 e_X3_functionAt := by
  unfold ML; rw [e]; exact Or.inl q1617
theorem ml_X1_611 (E : Et) (e : E.y.cls = RX1) : ML E 611 e_X1_ofCoin := by
  unfold ML; rw [e]; exact Or.inl q1625
theorem ml_X1_614 (E : Et) (e : E.y.cls = RX1) : ML E 614 e_X1_coinOf := by
  unfold ML; rw [e]; exact Or.inl q1629
theorem ml_X1_617 (E : Et) (e : E.y.cls = RX1) : ML E 617 e_J7_compareUnsigned := by
  unfold ML; rw [e]; exact Or.inl q1638
theorem ml_X1_623 (E : Et) (e : E.y.cls = RX1) : ML E 623 e_X30_add := by
  unfold ML; rw [e]; exact Or.inl q1633
theorem ml_X1_625 (E : Et) (e : E.y.cls = RX1) : ML E 625 e_X20_frame := by
  unfold ML; rw [e]; exact Or.inl q1437
theorem ml_X1_641 (E : Et) (e : E.y.cls = RX1) : ML E 641 e_X1_settlePlaces := by
  unfold ML; rw [e]; exact Or.inl q1470
theorem ml_X1_644 (E : Et) (e : E.y.cls = RX1) : ML E 644 e_X30_removeLast := by
  unfold ML; rw [e]; exact Or.inl q1736
theorem ml_X1_647 (E : Et) (e : E.y.cls = RX1) : ML E 647 e_X11_swap := by
  unfold ML; rw [e]; exact Or.inl q1740
theorem ml_X1_654 (E : Et) (e : E.y.cls = RX1) : ML E 654 e_X16_begin := by
  unfold ML; rw [e]; exact Or.inl q1748
theorem ml_X1_659 (E : Et) (e : E.y.cls = RX1) : ML E 659 e_X16_add := by
  unfold ML; rw [e]; exact Or.inl q1760
theorem ml_X1_661 (E : Et) (e : E.y.cls = RX1) : ML E 661 e_X16_end := by
  unfold ML; rw [e]; exact Or.inl q1781
theorem ml_X1_664 (E : Et) (e : E.y.cls = RX1) : ML E 664 e_X16_number := by
  unfold ML; rw [e]; exact Or.inl q1791
theorem ml_X1_680 (E : Et) (e : E.y.cls = RX1) : ML E 680 e_X1_end := by
  unfold ML; rw [e]; exact Or.inl q1462
theorem ml_X1_681 (E : Et) (e : E.y.cls = RX1) : ML E 681 e_X1_branch := by
  unfold ML; rw [e]; exact Or.inl q1557
theorem ml_X1_687 (E : Et) (e : E.y.cls = RX1) : ML E 687 e_X1_constant := by
  unfold ML; rw [e]; exact Or.inl q1565
theorem ml_X1_691 (E : Et) (e : E.y.cls = RX1) : ML E 691 e_X1_useLocal := by
  unfold ML; rw [e]; exact Or.inl q1584
theorem ml_X1_694 (E : Et) (e : E.y.cls = RX1) : ML E 694 e_X1_reference := by
  unfold ML; rw [e]; exact Or.inl q1589
theorem ml_X1_697 (E : Et) (e : E.y.cls = RX1) : ML E 697 e_X1_pack := by
  unfold ML; rw [e]; exact Or.inl q1601
theorem ml_X1_700 (E : Et) (e : E.y.cls = RX1) : ML E 700 e_X1_unpack := by
  unfold ML; rw [e]; exact Or.inl q1609
theorem ml_X1_703 (E : Et) (e : E.y.cls = RX1) : ML E 703 e_X1_call := by
  unfold ML; rw [e]; exact Or.inl q1613
theorem ml_X1_706 (E : Et) (e : E.y.cls = RX1) : ML E 706 e_X1_number := by
  unfold ML; rw [e]; exact Or.inl q1649
theorem ml_X1_708 (E : Et) (e : E.y.cls = RX1) : ML E 708 e_X1_resource := by
  unfold ML; rw [e]; exact Or.inl q1728
theorem ml_X1_711 (E : Et) (e : E.y.cls = RX1) : ML E 711 e_X1_vector := by
  unfold ML; rw [e]; exact Or.inl q1732
theorem ml_X1_714 (E : Et) (e : E.y.cls = RX1) : ML E 714 e_X1_bytes := by
  unfold ML; rw [e]; exact Or.inl q1744
theorem ml_X1_720 (E : Et) (e : E.y.cls = RX1) : ML E 720 e_X1_take := by
  unfold ML; rw [e]; exact Or.inl q1425
theorem ml_X1_722 (E : Et) (e : E.y.cls = RX1) : ML E 722 e_X1_go := by
  unfold ML; rw [e]; exact Or.inl q1429
theorem ml_X1_725 (E : Et) (e : E.y.cls = RX1) : ML E 725 e_X1_lookOn := by
  unfold ML; rw [e]; exact Or.inl q2093
theorem ml_X1_749 (E : Et) (e : E.y.cls = RX1) : ML E 749 e_X1_instruction := by
  unfold ML; rw [e]; exact Or.inl q1433
theorem ml_X1_752 (E : Et) (e : E.y.cls = RX1) : ML E 752 e_X1_beginTransaction := by
  unfold ML; rw [e]; exact Or.inl q1797
theorem ml_X1_755 (E : Et) (e : E.y.cls = RX1) : ML E 755 e_X1_hold := by
  unfold ML; rw [e]; exact Or.inl q2063
theorem ml_X1_758 (E : Et) (e : E.y.cls = RX1) : ML E 758 e_X1_finish := by
  unfold ML; rw [e]; exact Or.inl q2077
theorem ml_X1_761 (E : Et) (e : E.y.cls = RX1) : ML E 761 e_X20_clear := by
  unfold ML; rw [e]; exact Or.inl q2067
theorem ml_X1_768 (E : Et) (e : E.y.cls = RX1) : ML E 768 e_X1_rest := by
  unfold ML; rw [e]; exact Or.inl q2073
theorem ml_X1_787 (E : Et) (e : E.y.cls = RX1) : ML E 787 e_X1_forget := by
  unfold ML; rw [e]; exact Or.inl q2081
theorem ml_X1_790 (E : Et) (e : E.y.cls = RX1) : ML E 790 e_X1_leave := by
  unfold ML; rw [e]; exact Or.inl q2085
theorem ml_X1_794 (E : Et) (e : E.y.cls = RX1) : ML E 794 e_X1_release := by
  unfold ML; rw [e]; exact Or.inl q2089
theorem ml_X1_797 (E : Et) (e : E.y.cls = RX1) : ML E 797 e_X1_again := by
  unfold ML; rw [e]; exact Or.inl q2097
theorem ml_X1_805 (E : Et) (e : E.y.cls = RX1) : ML E 805 e_X1_together := by
  unfold ML; rw [e]; exact Or.inl q1413
theorem ml_X1_808 (E : Et) (e : E.y.cls = RX1) : ML E 808 e_X1_takeOver := by
  unfold ML; rw [e]; exact Or.inl q2101
theorem ml_X1_820 (E : Et) (e : E.y.cls = RX1) : ML E 820 e_X1_next := by
  unfold ML; rw [e]; exact Or.inl q1417
theorem ml_X1_822 (E : Et) (e : E.y.cls = RX1) : ML E 822 e_X1_step := by
  unfold ML; rw [e]; exact Or.inl q1421
theorem ml_X1_829 (E : Et) (e : E.y.cls = RX1) : ML E 829 e_X1_remove := by
  unfold ML; rw [e]; exact Or.inl q2105
theorem ml_X1_833 (E : Et) (e : E.y.cls = RX1) : ML E 833 e_X1_fresh := by
  unfold ML; rw [e]; exact Or.inl q2109
theorem ml_X1_836 (E : Et) (e : E.y.cls = RX1) : ML E 836 e_X1_spare := by
  unfold ML; rw [e]; exact Or.inl q2113
theorem ml_X1_851 (E : Et) (e : E.y.cls = RX1) : ML E 851 e_X1_isLimit := by
  unfold ML; rw [e]; exact Or.inl q2134
theorem ml_X1_855 (E : Et) (e : E.y.cls = RX1) : ML E 855 e_X1_transaction := by
  unfold ML; rw [e]; exact Or.inl q2137
theorem ml_X1_865 (E : Et) (e : E.y.cls = RX1) : ML E 865 e_X1_isTransaction := by
  unfold ML; rw [e]; exact Or.inl q2163
theorem ml_X1_868 (E : Et) (e : E.y.cls = RX1) : ML E 868 e_X30_coins := by
  unfold ML; rw [e]; exact Or.inl q2183
theorem ml_X1_875 (E : Et) (e : E.y.cls = RX1) : ML E 875 e_X1_show := by
  unfold ML; rw [e]; exact Or.inl q2199
theorem ml_X1_879 (E : Et) (e : E.y.cls = RX1) : ML E 879 e_X1_write := by
  unfold ML; rw [e]; exact Or.inl q2196
theorem ml_X1_884 (E : Et) (e : E.y.cls = RX1) : ML E 884 e_X16_addLong := by
  unfold ML; rw [e]; exact Or.inl q2226
theorem ml_X1_887 (E : Et) (e : E.y.cls = RX1) : ML E 887 e_X15_key := by
  unfold ML; rw [e]; exact Or.inl q2227
theorem ml_X1_891 (E : Et) (e : E.y.cls = RX1) : ML E 891 e_X1_digestBytes := by
  unfold ML; rw [e]; exact Or.inl q2235
theorem ml_X1_895 (E : Et) (e : E.y.cls = RX1) : ML E 895 e_X15_set := by
  unfold ML; rw [e]; exact Or.inl q2239
theorem ml_X1_897 (E : Et) (e : E.y.cls = RX1) : ML E 897 e_X1_isLess := by
  unfold ML; rw [e]; exact Or.inl q2219
theorem ml_X1_901 (E : Et) (e : E.y.cls = RX1) : ML E 901 e_X1_plant := by
  unfold ML; rw [e]; exact Or.inl q2222
theorem ml_X1_904 (E : Et) (e : E.y.cls = RX1) : ML E 904 e_X15_begin := by
  unfold ML; rw [e]; exact Or.inl q2211
theorem ml_X1_905 (E : Et) (e : E.y.cls = RX1) : ML E 905 e_X1_plantAll := by
  unfold ML; rw [e]; exact Or.inl q2215
theorem ml_X1_908 (E : Et) (e : E.y.cls = RX1) : ML E 908 e_X15_root := by
  unfold ML; rw [e]; exact Or.inl q2292
theorem ml_X13_15 (E : Et) (e : E.y.cls = RX13) : ML E 15 e_X14_init := by
  unfold ML; rw [e]; exact Or.inr ⟨_, List.mem_filter.mpr ⟨q744, rfl⟩⟩
theorem ml_X13_46 (E : Et) (e : E.y.cls = RX13) : ML E 46 e_J4_init := by
  unfold ML; rw [e]; exact Or.inl q773
theorem ml_X13_58 (E : Et) (e : E.y.cls = RX13) : ML E 58 e_X31_head := by
  unfold ML; rw [e]; exact Or.inl q1845
theorem ml_X13_62 (E : Et) (e : E.y.cls = RX13) : ML E 62 e_X31_rest := by
  unfold ML; rw [e]; exact Or.inl q1858
theorem ml_X13_66 (E : Et) (e : E.y.cls = RX13) : ML E 66 e_X31_isReference := by
  unfold ML; rw [e]; exact Or.inl q1861
theorem ml_X13_74 (E : Et) (e : E.y.cls = RX13) : ML E 74 e_X3_structureAt := by
  unfold ML; rw [e]; exact Or.inl q1867
theorem ml_X13_89 (E : Et) (e : E.y.cls = RX13) : ML E 89 e_X13_abilitiesOf := by
  unfold ML; rw [e]; exact Or.inl q1841
theorem ml_X13_106 (E : Et) (e : E.y.cls = RX13) : ML E 106 e_X5_get := by
  unfold ML; rw [e]; exact Or.inl q1840
theorem ml_X13_127 (E : Et) (e : E.y.cls = RX13) : ML E 127 e_X13_fail := by
  unfold ML; rw [e]; exact Or.inl q1902
theorem ml_X13_134 (E : Et) (e : E.y.cls = RX13) : ML E 134 e_X13_need := by
  unfold ML; rw [e]; exact Or.inl q1898
theorem ml_X13_145 (E : Et) (e : E.y.cls = RX13) : ML E 145 e_X13_take := by
  unfold ML; rw [e]; exact Or.inl q1914
theorem ml_X13_148 (E : Et) (e : E.y.cls = RX13) : ML E 148 e_X31_isWriting := by
  unfold ML; rw [e]; exact Or.inl q1987
theorem ml_X13_151 (E : Et) (e : E.y.cls = RX13) : ML E 151 e_X31_isNumber := by
  unfold ML; rw [e]; exact Or.inl q2039
theorem ml_X13_154 (E : Et) (e : E.y.cls = RX13) : ML E 154 e_X13_has := by
  unfold ML; rw [e]; exact Or.inl q1922
theorem ml_X13_160 (E : Et) (e : E.y.cls = RX13) : ML E 160 e_X13_counts := by
  unfold ML; rw [e]; exact Or.inl q1984
theorem ml_X13_164 (E : Et) (e : E.y.cls = RX13) : ML E 164 e_X8_localCount := by
  unfold ML; rw [e]; exact Or.inl q1881
theorem ml_X13_168 (E : Et) (e : E.y.cls = RX13) : ML E 168 e_X13_localType := by
  unfold ML; rw [e]; exact Or.inl q1882
theorem ml_X13_175 (E : Et) (e : E.y.cls = RX13) : ML E 175 e_X13_isLive := by
  unfold ML; rw [e]; exact Or.inl q1979
theorem ml_X13_178 (E : Et) (e : E.y.cls = RX13) : ML E 178 e_X13_takeType := by
  unfold ML; rw [e]; exact Or.inl q1939
theorem ml_X13_182 (E : Et) (e : E.y.cls = RX13) : ML E 182 e_X13_isThere := by
  unfold ML; rw [e]; exact Or.inl q1931
theorem ml_X13_186 (E : Et) (e : E.y.cls = RX13) : ML E 186 e_X13_needAbility := by
  unfold ML; rw [e]; exact Or.inl q1918
theorem ml_X13_190 (E : Et) (e : E.y.cls = RX13) : ML E 190 e_X13_put := by
  unfold ML; rw [e]; exact Or.inl q1971
theorem ml_X13_196 (E : Et) (e : E.y.cls = RX13) : ML E 196 e_X31_with := by
  unfold ML; rw [e]; exact Or.inl q1990
theorem ml_X13_200 (E : Et) (e : E.y.cls = RX13) : ML E 200 e_X13_needSole := by
  unfold ML; rw [e]; exact Or.inl q2014
theorem ml_X13_203 (E : Et) (e : E.y.cls = RX13) : ML E 203 e_X31_structureOf := by
  unfold ML; rw [e]; exact Or.inl q1997
theorem ml_X13_206 (E : Et) (e : E.y.cls = RX13) : ML E 206 e_X13_takeReference := by
  unfold ML; rw [e]; exact Or.inl q2001
theorem ml_X13_210 (E : Et) (e : E.y.cls = RX13) : ML E 210 e_X13_fieldOf := by
  unfold ML; rw [e]; exact Or.inl q2005
theorem ml_X13_216 (E : Et) (e : E.y.cls = RX13) : ML E 216 e_X13_hasResources := by
  unfold ML; rw [e]; exact Or.inl q2031
theorem ml_X13_232 (E : Et) (e : E.y.cls = RX13) : ML E 232 e_X13_takeNumber := by
  unfold ML; rw [e]; exact Or.inl q2045
theorem ml_X13_242 (E : Et) (e : E.y.cls = RX13) : ML E 242 e_X13_back := by
  unfold ML; rw [e]; exact Or.inl q1947
theorem ml_X13_248 (E : Et) (e : E.y.cls = RX13) : ML E 248 e_X13_join := by
  unfold ML; rw [e]; exact Or.inl q1960
theorem ml_X13_251 (E : Et) (e : E.y.cls = RX13) : ML E 251 e_X13_first := by
  unfold ML; rw [e]; exact Or.inl q1886
theorem ml_X13_257 (E : Et) (e : E.y.cls = RX13) : ML E 257 e_X14_isThere := by
  unfold ML; rw [e]; exact Or.inl q1951
theorem ml_X13_260 (E : Et) (e : E.y.cls = RX13) : ML E 260 e_X13_isDropped := by
  unfold ML; rw [e]; exact Or.inl q1955
theorem ml_X13_263 (E : Et) (e : E.y.cls = RX13) : ML E 263 e_X14_get := by
  unfold ML; rw [e]; exact Or.inl q1906
theorem ml_X13_265 (E : Et) (e : E.y.cls = RX13) : ML E 265 e_X13_come := by
  unfold ML; rw [e]; exact Or.inl q1943
theorem ml_X13_268 (E : Et) (e : E.y.cls = RX13) : ML E 268 e_X13_end := by
  unfold ML; rw [e]; exact Or.inl q1926
theorem ml_X13_271 (E : Et) (e : E.y.cls = RX13) : ML E 271 e_X13_branch := by
  unfold ML; rw [e]; exact Or.inl q1935
theorem ml_X13_275 (E : Et) (e : E.y.cls = RX13) : ML E 275 e_X13_constant := by
  unfold ML; rw [e]; exact Or.inl q1964
theorem ml_X13_278 (E : Et) (e : E.y.cls = RX13) : ML E 278 e_X13_useLocal := by
  unfold ML; rw [e]; exact Or.inl q1975
theorem ml_X13_281 (E : Et) (e : E.y.cls = RX13) : ML E 281 e_X13_borrowField := by
  unfold ML; rw [e]; exact Or.inl q1993
theorem ml_X13_285 (E : Et) (e : E.y.cls = RX13) : ML E 285 e_X13_reference := by
  unfold ML; rw [e]; exact Or.inl q2010
theorem ml_X13_288 (E : Et) (e : E.y.cls = RX13) : ML E 288 e_X13_pack := by
  unfold ML; rw [e]; exact Or.inl q2018
theorem ml_X13_291 (E : Et) (e : E.y.cls = RX13) : ML E 291 e_X13_unpack := by
  unfold ML; rw [e]; exact Or.inl q2022
theorem ml_X13_294 (E : Et) (e : E.y.cls = RX13) : ML E 294 e_X3_functionAt := by
  unfold ML; rw [e]; exact Or.inl q2026
theorem ml_X13_298 (E : Et) (e : E.y.cls = RX13) : ML E 298 e_X13_call := by
  unfold ML; rw [e]; exact Or.inl q2027
theorem ml_X13_302 (E : Et) (e : E.y.cls = RX13) : ML E 302 e_X13_reckon := by
  unfold ML; rw [e]; exact Or.inl q2035
theorem ml_X13_305 (E : Et) (e : E.y.cls = RX13) : ML E 305 e_X13_resource := by
  unfold ML; rw [e]; exact Or.inl q2049
theorem ml_X13_308 (E : Et) (e : E.y.cls = RX13) : ML E 308 e_X13_vector := by
  unfold ML; rw [e]; exact Or.inl q2053
theorem ml_X13_312 (E : Et) (e : E.y.cls = RX13) : ML E 312 e_X13_bytes := by
  unfold ML; rw [e]; exact Or.inl q2057
theorem ml_X13_336 (E : Et) (e : E.y.cls = RX13) : ML E 336 e_X13_doOne := by
  unfold ML; rw [e]; exact Or.inl q1910
theorem ml_X13_340 (E : Et) (e : E.y.cls = RX13) : ML E 340 e_X13_one := by
  unfold ML; rw [e]; exact Or.inl q1894
theorem ml_X13_344 (E : Et) (e : E.y.cls = RX13) : ML E 344 e_X13_begin := by
  unfold ML; rw [e]; exact Or.inl q1877
theorem ml_X13_347 (E : Et) (e : E.y.cls = RX13) : ML E 347 e_X13_all := by
  unfold ML; rw [e]; exact Or.inl q1890
theorem ml_X9_15 (E : Et) (e : E.y.cls = RX9) : ML E 15 e_X10_init := by
  unfold ML; rw [e]; exact Or.inr ⟨_, List.mem_filter.mpr ⟨q562, rfl⟩⟩
theorem ml_X9_20 (E : Et) (e : E.y.cls = RX9) : ML E 20 e_X10_isAt := by
  unfold ML; rw [e]; exact Or.inl q1490
theorem ml_X8_9 (E : Et) (e : E.y.cls = RX8) : ML E 9 e_X5_init := by
  unfold ML; rw [e]; exact Or.inr ⟨_, List.mem_filter.mpr ⟨q443, rfl⟩⟩
theorem ml_X15_11 (E : Et) (e : E.y.cls = RX15) : ML E 11 e_X16_init := by
  unfold ML; rw [e]; exact Or.inr ⟨_, List.mem_filter.mpr ⟨q837, rfl⟩⟩
theorem ml_X15_20 (E : Et) (e : E.y.cls = RX15) : ML E 20 e_X17_init := by
  unfold ML; rw [e]; exact Or.inr ⟨_, List.mem_filter.mpr ⟨q862, rfl⟩⟩
theorem ml_X15_31 (E : Et) (e : E.y.cls = RX15) : ML E 31 e_X18_init := by
  unfold ML; rw [e]; exact Or.inr ⟨_, List.mem_filter.mpr ⟨q922, rfl⟩⟩
theorem ml_X15_52 (E : Et) (e : E.y.cls = RX15) : ML E 52 e_X17_isLeaf := by
  unfold ML; rw [e]; exact Or.inl q2251
theorem ml_X15_59 (E : Et) (e : E.y.cls = RX15) : ML E 59 e_X18_bit := by
  unfold ML; rw [e]; exact Or.inl q2255
theorem ml_X15_63 (E : Et) (e : E.y.cls = RX15) : ML E 63 e_X17_child := by
  unfold ML; rw [e]; exact Or.inl q2259
theorem ml_X15_66 (E : Et) (e : E.y.cls = RX15) : ML E 66 e_X15_near := by
  unfold ML; rw [e]; exact Or.inl q2247
theorem ml_X15_73 (E : Et) (e : E.y.cls = RX15) : ML E 73 e_X18_isSame := by
  unfold ML; rw [e]; exact Or.inl q2263
theorem ml_X15_77 (E : Et) (e : E.y.cls = RX15) : ML E 77 e_X18_set := by
  unfold ML; rw [e]; exact Or.inl q2231
theorem ml_X15_81 (E : Et) (e : E.y.cls = RX15) : ML E 81 e_X15_find := by
  unfold ML; rw [e]; exact Or.inl q2243
theorem ml_X15_84 (E : Et) (e : E.y.cls = RX15) : ML E 84 e_X15_insert := by
  unfold ML; rw [e]; exact Or.inl q2267
theorem ml_X15_90 (E : Et) (e : E.y.cls = RX15) : ML E 90 e_X17_touch := by
  unfold ML; rw [e]; exact Or.inl q2288
theorem ml_X15_94 (E : Et) (e : E.y.cls = RX15) : ML E 94 e_X17_make := by
  unfold ML; rw [e]; exact Or.inl q2271
theorem ml_X15_97 (E : Et) (e : E.y.cls = RX15) : ML E 97 e_X18_copy := by
  unfold ML; rw [e]; exact Or.inl q2275
theorem ml_X15_101 (E : Et) (e : E.y.cls = RX15) : ML E 101 e_X18_fork := by
  unfold ML; rw [e]; exact Or.inl q2279
theorem ml_X15_108 (E : Et) (e : E.y.cls = RX15) : ML E 108 e_X17_setChild := by
  unfold ML; rw [e]; exact Or.inl q2284
theorem ml_X15_112 (E : Et) (e : E.y.cls = RX15) : ML E 112 e_X16_begin := by
  unfold ML; rw [e]; exact Or.inl q2307
theorem ml_X15_115 (E : Et) (e : E.y.cls = RX15) : ML E 115 e_X16_add := by
  unfold ML; rw [e]; exact Or.inl q2308
theorem ml_X15_118 (E : Et) (e : E.y.cls = RX15) : ML E 118 e_X18_get := by
  unfold ML; rw [e]; exact Or.inl q2309
theorem ml_X15_122 (E : Et) (e : E.y.cls = RX15) : ML E 122 e_X16_addLong := by
  unfold ML; rw [e]; exact Or.inl q2313
theorem ml_X15_126 (E : Et) (e : E.y.cls = RX15) : ML E 126 e_X16_end := by
  unfold ML; rw [e]; exact Or.inl q2314
theorem ml_X15_129 (E : Et) (e : E.y.cls = RX15) : ML E 129 e_X16_number := by
  unfold ML; rw [e]; exact Or.inl q2315
theorem ml_X15_136 (E : Et) (e : E.y.cls = RX15) : ML E 136 e_X15_hash := by
  unfold ML; rw [e]; exact Or.inl q2303
theorem ml_X15_150 (E : Et) (e : E.y.cls = RX15) : ML E 150 e_X15_settle := by
  unfold ML; rw [e]; exact Or.inl q2316
theorem ml_X15_156 (E : Et) (e : E.y.cls = RX15) : ML E 156 e_X17_topLevel := by
  unfold ML; rw [e]; exact Or.inl q2320
theorem ml_X15_160 (E : Et) (e : E.y.cls = RX15) : ML E 160 e_X15_raise := by
  unfold ML; rw [e]; exact Or.inl q2324
theorem ml_X15_164 (E : Et) (e : E.y.cls = RX15) : ML E 164 e_X15_isNumber := by
  unfold ML; rw [e]; exact Or.inl q2296
theorem ml_X15_167 (E : Et) (e : E.y.cls = RX15) : ML E 167 e_X15_refresh := by
  unfold ML; rw [e]; exact Or.inl q2299
theorem ml_X16_39 (E : Et) (e : E.y.cls = RX16) : ML E 39 e_X16_compress := by
  unfold ML; rw [e]; exact Or.inl q1764
theorem ml_X16_42 (E : Et) (e : E.y.cls = RX16) : ML E 42 e_X16_add := by
  unfold ML; rw [e]; exact Or.inl q1786
theorem ml_X16_46 (E : Et) (e : E.y.cls = RX16) : ML E 46 e_J8_rotateRight := by
  unfold ML; rw [e]; exact Or.inl q1772
theorem ml_X16_52 (E : Et) (e : E.y.cls = RX16) : ML E 52 e_X16_expand := by
  unfold ML; rw [e]; exact Or.inl q1768
theorem ml_X16_55 (E : Et) (e : E.y.cls = RX16) : ML E 55 e_X16_round := by
  unfold ML; rw [e]; exact Or.inl q1775
theorem ml_X16_63 (E : Et) (e : E.y.cls = RX16) : ML E 63 e_X16_addLong := by
  unfold ML; rw [e]; exact Or.inl q1787
theorem ml_X18_13 (E : Et) (e : E.y.cls = RX18) : ML E 13 e_J7_numberOfLeadingZeros := by
  unfold ML; rw [e]; exact Or.inl q2283
theorem ml_X17_9 (E : Et) (e : E.y.cls = RX17) : ML E 9 e_X18_init := by
  unfold ML; rw [e]; exact Or.inr ⟨_, List.mem_filter.mpr ⟨q868, rfl⟩⟩
theorem ml_X2_9 (E : Et) (e : E.y.cls = RX2) : ML E 9 e_X3_init := by
  unfold ML; rw [e]; exact Or.inl q322
theorem ml_X11_15 (E : Et) (e : E.y.cls = RX11) : ML E 15 e_X30_init := by
  unfold ML; rw [e]; exact Or.inr ⟨_, List.mem_filter.mpr ⟨q1511, rfl⟩⟩
theorem ml_X11_39 (E : Et) (e : E.y.cls = RX11) : ML E 39 e_X11_take := by
  unfold ML; rw [e]; exact Or.inl q1505
theorem ml_X11_43 (E : Et) (e : E.y.cls = RX11) : ML E 43 e_X11_drop := by
  unfold ML; rw [e]; exact Or.inl q1461
theorem ml_X11_47 (E : Et) (e : E.y.cls = RX11) : ML E 47 e_X11_copy := by
  unfold ML; rw [e]; exact Or.inl q1550
theorem ml_X12_19 (E : Et) (e : E.y.cls = RX12) : ML E 19 e_J3_init := by
  unfold ML; rw [e]; exact Or.inl q680
theorem ml_X12_36 (E : Et) (e : E.y.cls = RX12) : ML E 36 e_X12_fail := by
  unfold ML; rw [e]; exact Or.inl q1178
theorem ml_X12_46 (E : Et) (e : E.y.cls = RX12) : ML E 46 e_X12_need := by
  unfold ML; rw [e]; exact Or.inl q1174
theorem ml_X12_50 (E : Et) (e : E.y.cls = RX12) : ML E 50 e_X12_next := by
  unfold ML; rw [e]; exact Or.inl q1170
theorem ml_X12_54 (E : Et) (e : E.y.cls = RX12) : ML E 54 e_X12_number := by
  unfold ML; rw [e]; exact Or.inl q1188
theorem ml_X12_68 (E : Et) (e : E.y.cls = RX12) : ML E 68 e_X4_add := by
  unfold ML; rw [e]; exact Or.inl q1208
theorem ml_X12_83 (E : Et) (e : E.y.cls = RX12) : ML E 83 e_X12_type := by
  unfold ML; rw [e]; exact Or.inl q1204
theorem ml_X12_87 (E : Et) (e : E.y.cls = RX12) : ML E 87 e_X12_bounded := by
  unfold ML; rw [e]; exact Or.inl q1196
theorem ml_X12_91 (E : Et) (e : E.y.cls = RX12) : ML E 91 e_X12_span := by
  unfold ML; rw [e]; exact Or.inl q1200
theorem ml_X12_115 (E : Et) (e : E.y.cls = RX12) : ML E 115 e_X12_shortNumber := by
  unfold ML; rw [e]; exact Or.inl q1184
theorem ml_X12_144 (E : Et) (e : E.y.cls = RX12) : ML E 144 e_X12_list := by
  unfold ML; rw [e]; exact Or.inl q1216
theorem ml_X12_151 (E : Et) (e : E.y.cls = RX12) : ML E 151 e_X1_formOf := by
  unfold ML; rw [e]; exact Or.inr ⟨_, List.mem_filter.mpr ⟨q1228, rfl⟩⟩
theorem ml_X12_171 (E : Et) (e : E.y.cls = RX12) : ML E 171 e_X6_add := by
  unfold ML; rw [e]; exact Or.inl q1254
theorem ml_X12_178 (E : Et) (e : E.y.cls = RX12) : ML E 178 e_X12_instruction := by
  unfold ML; rw [e]; exact Or.inl q1224
theorem ml_X12_186 (E : Et) (e : E.y.cls = RX12) : ML E 186 e_X12_structureRows := by
  unfold ML; rw [e]; exact Or.inl q1192
theorem ml_X12_189 (E : Et) (e : E.y.cls = RX12) : ML E 189 e_X12_foreignFunctions := by
  unfold ML; rw [e]; exact Or.inl q1212
theorem ml_X12_197 (E : Et) (e : E.y.cls = RX12) : ML E 197 e_X12_functionOf := by
  unfold ML; rw [e]; exact Or.inl q1220
theorem ml_X12_214 (E : Et) (e : E.y.cls = RX12) : ML E 214 e_X3_structureCount := by
  unfold ML; rw [e]; exact Or.inl q1268
theorem ml_X12_227 (E : Et) (e : E.y.cls = RX12) : ML E 227 e_X12_structureOperand := by
  unfold ML; rw [e]; exact Or.inl q1282
theorem ml_X12_233 (E : Et) (e : E.y.cls = RX12) : ML E 233 e_X8_localCount := by
  unfold ML; rw [e]; exact Or.inl q1286
theorem ml_X12_236 (E : Et) (e : E.y.cls = RX12) : ML E 236 e_X3_functionCount := by
  unfold ML; rw [e]; exact Or.inl q1290
theorem ml_X12_239 (E : Et) (e : E.y.cls = RX12) : ML E 239 e_X12_typesTo := by
  unfold ML; rw [e]; exact Or.inl q1262
theorem ml_X12_243 (E : Et) (e : E.y.cls = RX12) : ML E 243 e_X12_operands := by
  unfold ML; rw [e]; exact Or.inl q1272
theorem ml_X12_247 (E : Et) (e : E.y.cls = RX12) : ML E 247 e_X5_get := by
  unfold ML; rw [e]; exact Or.inl q1302
theorem ml_X12_251 (E : Et) (e : E.y.cls = RX12) : ML E 251 e_X12_directly := by
  unfold ML; rw [e]; exact Or.inl q1298
theorem ml_X12_255 (E : Et) (e : E.y.cls = RX12) : ML E 255 e_X3_clear := by
  unfold ML; rw [e]; exact Or.inl q1162
theorem ml_X12_258 (E : Et) (e : E.y.cls = RX12) : ML E 258 e_X12_module := by
  unfold ML; rw [e]; exact Or.inl q1166
theorem ml_X12_260 (E : Et) (e : E.y.cls = RX12) : ML E 260 e_X12_bounds := by
  unfold ML; rw [e]; exact Or.inl q1258
theorem ml_X12_263 (E : Et) (e : E.y.cls = RX12) : ML E 263 e_X12_itself := by
  unfold ML; rw [e]; exact Or.inl q1294
theorem ml_X7_9 (E : Et) (e : E.y.cls = RX7) : ML E 9 e_X5_init := by
  unfold ML; rw [e]; exact Or.inr ⟨_, List.mem_filter.mpr ⟨q413, rfl⟩⟩
theorem ml_X3_25 (E : Et) (e : E.y.cls = RX3) : ML E 25 e_X4_init := by
  unfold ML; rw [e]; exact Or.inr ⟨_, List.mem_filter.mpr ⟨q332, rfl⟩⟩
theorem ml_X3_32 (E : Et) (e : E.y.cls = RX3) : ML E 32 e_X5_init := by
  unfold ML; rw [e]; exact Or.inr ⟨_, List.mem_filter.mpr ⟨q355, rfl⟩⟩
theorem ml_X3_39 (E : Et) (e : E.y.cls = RX3) : ML E 39 e_X6_init := by
  unfold ML; rw [e]; exact Or.inr ⟨_, List.mem_filter.mpr ⟨q374, rfl⟩⟩
theorem ml_X3_44 (E : Et) (e : E.y.cls = RX3) : ML E 44 e_X7_init := by
  unfold ML; rw [e]; exact Or.inr ⟨_, List.mem_filter.mpr ⟨q408, rfl⟩⟩
theorem ml_X3_45 (E : Et) (e : E.y.cls = RX3) : ML E 45 e_X8_init := by
  unfold ML; rw [e]; exact Or.inr ⟨_, List.mem_filter.mpr ⟨q438, rfl⟩⟩
theorem ml_X22_22 (E : Et) (e : E.y.cls = RX22) : ML E 22 e_X2_init := by
  unfold ML; rw [e]; exact Or.inr ⟨_, List.mem_filter.mpr ⟨q1062, rfl⟩⟩
theorem ml_X22_29 (E : Et) (e : E.y.cls = RX22) : ML E 29 e_X9_init := by
  unfold ML; rw [e]; exact Or.inl q1064
theorem ml_X31_9 (E : Et) (e : E.y.cls = RX31) : ML E 9 e_J7_numberOfLeadingZeros := by
  unfold ML; rw [e]; exact Or.inl q1851
theorem ml_X31_15 (E : Et) (e : E.y.cls = RX31) : ML E 15 e_X31_top := by
  unfold ML; rw [e]; exact Or.inl q1848
theorem ml_X31_20 (E : Et) (e : E.y.cls = RX31) : ML E 20 e_X31_head := by
  unfold ML; rw [e]; exact Or.inl q1864
theorem ml_X30_20 (E : Et) (e : E.y.cls = RX30) : ML E 20 e_X30_part := by
  unfold ML; rw [e]; exact Or.inl q1637
theorem ml_X30_24 (E : Et) (e : E.y.cls = RX30) : ML E 24 e_X30_size := by
  unfold ML; rw [e]; exact Or.inl q1477
theorem ml_X30_38 (E : Et) (e : E.y.cls = RX30) : ML E 38 e_X30_isSame := by
  unfold ML; rw [e]; exact Or.inl q1723
theorem ml_X30_42 (E : Et) (e : E.y.cls = RX30) : ML E 42 e_X30_coins := by
  unfold ML; rw [e]; exact Or.inl q2186
theorem ml_X19_22 (E : Et) (e : E.y.cls = RX19) : ML E 22 e_J7_compareUnsigned := by
  unfold ML; rw [e]; exact Or.inl q1668
theorem ml_X19_28 (E : Et) (e : E.y.cls = RX19) : ML E 28 e_X19_carries := by
  unfold ML; rw [e]; exact Or.inl q1665
theorem ml_X19_32 (E : Et) (e : E.y.cls = RX19) : ML E 32 e_X19_compare := by
  unfold ML; rw [e]; exact Or.inl q1673
theorem ml_X19_36 (E : Et) (e : E.y.cls = RX19) : ML E 36 e_J5_multiplyHigh := by
  unfold ML; rw [e]; exact Or.inl q1683
theorem ml_X19_42 (E : Et) (e : E.y.cls = RX19) : ML E 42 e_X19_upper := by
  unfold ML; rw [e]; exact Or.inl q1680
theorem ml_X19_45 (E : Et) (e : E.y.cls = RX19) : ML E 45 e_X19_set := by
  unfold ML; rw [e]; exact Or.inl q1691
theorem ml_X20_19 (E : Et) (e : E.y.cls = RX20) : ML E 19 e_X9_init := by
  unfold ML; rw [e]; exact Or.inl q984
theorem ml_X20_26 (E : Et) (e : E.y.cls = RX20) : ML E 26 e_X21_init := by
  unfold ML; rw [e]; exact Or.inr ⟨_, List.mem_filter.mpr ⟨q986, rfl⟩⟩
theorem ml_X20_31 (E : Et) (e : E.y.cls = RX20) : ML E 31 e_X20_frame := by
  unfold ML; rw [e]; exact Or.inl q2071
theorem ml_X20_39 (E : Et) (e : E.y.cls = RX20) : ML E 39 e_X11_drop := by
  unfold ML; rw [e]; exact Or.inl q2072
theorem ml_X0_9 (E : Et) (e : E.y.cls = RX0) : ML E 9 e_X0_cell := by
  unfold ML; rw [e]; exact Or.inl q2332
theorem ml_X0_15 (E : Et) (e : E.y.cls = RX0) : ML E 15 e_X1_init := by
  unfold ML; rw [e]; exact Or.inl q308
theorem ml_X0_20 (E : Et) (e : E.y.cls = RX0) : ML E 20 e_X23_init := by
  unfold ML; rw [e]; exact Or.inl q2337
theorem ml_X0_23 (E : Et) (e : E.y.cls = RX0) : ML E 23 e_X1_type := by
  unfold ML; rw [e]; exact Or.inl q2117
theorem ml_X0_27 (E : Et) (e : E.y.cls = RX0) : ML E 27 e_X23_type := by
  unfold ML; rw [e]; exact Or.inl q2834
theorem ml_X0_28 (E : Et) (e : E.y.cls = RX0) : ML E 28 e_X1_mint := by
  unfold ML; rw [e]; exact Or.inl q2121
theorem ml_X0_32 (E : Et) (e : E.y.cls = RX0) : ML E 32 e_X23_mint := by
  unfold ML; rw [e]; exact Or.inl q2838
theorem ml_X0_33 (E : Et) (e : E.y.cls = RX0) : ML E 33 e_X1_begin := by
  unfold ML; rw [e]; exact Or.inl q2126
theorem ml_X0_37 (E : Et) (e : E.y.cls = RX0) : ML E 37 e_X23_begin := by
  unfold ML; rw [e]; exact Or.inl q2855
theorem ml_X0_38 (E : Et) (e : E.y.cls = RX0) : ML E 38 e_X1_publish := by
  unfold ML; rw [e]; exact Or.inl q2130
theorem ml_X0_42 (E : Et) (e : E.y.cls = RX0) : ML E 42 e_X23_publish := by
  unfold ML; rw [e]; exact Or.inl q2859
theorem ml_X0_43 (E : Et) (e : E.y.cls = RX0) : ML E 43 e_X1_call_2 := by
  unfold ML; rw [e]; exact Or.inl q2141
theorem ml_X0_47 (E : Et) (e : E.y.cls = RX0) : ML E 47 e_X23_call := by
  unfold ML; rw [e]; exact Or.inl q2870
theorem ml_X0_48 (E : Et) (e : E.y.cls = RX0) : ML E 48 e_X1_argument := by
  unfold ML; rw [e]; exact Or.inl q2146
theorem ml_X0_52 (E : Et) (e : E.y.cls = RX0) : ML E 52 e_X23_argument := by
  unfold ML; rw [e]; exact Or.inl q2875
theorem ml_X0_53 (E : Et) (e : E.y.cls = RX0) : ML E 53 e_X1_weave := by
  unfold ML; rw [e]; exact Or.inl q2150
theorem ml_X0_57 (E : Et) (e : E.y.cls = RX0) : ML E 57 e_X23_weave := by
  unfold ML; rw [e]; exact Or.inl q2880
theorem ml_X0_58 (E : Et) (e : E.y.cls = RX0) : ML E 58 e_X1_unweave := by
  unfold ML; rw [e]; exact Or.inl q2155
theorem ml_X0_61 (E : Et) (e : E.y.cls = RX0) : ML E 61 e_X23_unweave := by
  unfold ML; rw [e]; exact Or.inl q2884
theorem ml_X0_62 (E : Et) (e : E.y.cls = RX0) : ML E 62 e_X1_execute := by
  unfold ML; rw [e]; exact Or.inl q1409
theorem ml_X0_65 (E : Et) (e : E.y.cls = RX0) : ML E 65 e_X23_execute := by
  unfold ML; rw [e]; exact Or.inl q2888
theorem ml_X0_66 (E : Et) (e : E.y.cls = RX0) : ML E 66 e_X1_told := by
  unfold ML; rw [e]; exact Or.inl q2159
theorem ml_X0_70 (E : Et) (e : E.y.cls = RX0) : ML E 70 e_X23_told := by
  unfold ML; rw [e]; exact Or.inl q3616
theorem ml_X0_71 (E : Et) (e : E.y.cls = RX0) : ML E 71 e_X1_code := by
  unfold ML; rw [e]; exact Or.inl q2167
theorem ml_X0_75 (E : Et) (e : E.y.cls = RX0) : ML E 75 e_X23_code := by
  unfold ML; rw [e]; exact Or.inl q3624
theorem ml_X0_76 (E : Et) (e : E.y.cls = RX0) : ML E 76 e_X1_result := by
  unfold ML; rw [e]; exact Or.inl q2171
theorem ml_X0_80 (E : Et) (e : E.y.cls = RX0) : ML E 80 e_X23_result := by
  unfold ML; rw [e]; exact Or.inl q3628
theorem ml_X0_81 (E : Et) (e : E.y.cls = RX0) : ML E 81 e_X1_account := by
  unfold ML; rw [e]; exact Or.inl q2175
theorem ml_X0_85 (E : Et) (e : E.y.cls = RX0) : ML E 85 e_X23_account := by
  unfold ML; rw [e]; exact Or.inl q3632
theorem ml_X0_86 (E : Et) (e : E.y.cls = RX0) : ML E 86 e_X1_coins := by
  unfold ML; rw [e]; exact Or.inl q2179
theorem ml_X0_89 (E : Et) (e : E.y.cls = RX0) : ML E 89 e_X23_coins := by
  unfold ML; rw [e]; exact Or.inl q3636
theorem ml_X0_90 (E : Et) (e : E.y.cls = RX0) : ML E 90 e_X1_places := by
  unfold ML; rw [e]; exact Or.inl q2187
theorem ml_X0_94 (E : Et) (e : E.y.cls = RX0) : ML E 94 e_X23_places := by
  unfold ML; rw [e]; exact Or.inl q3644
theorem ml_X0_95 (E : Et) (e : E.y.cls = RX0) : ML E 95 e_X1_resource_2 := by
  unfold ML; rw [e]; exact Or.inl q2191
theorem ml_X0_99 (E : Et) (e : E.y.cls = RX0) : ML E 99 e_X23_resource := by
  unfold ML; rw [e]; exact Or.inl q3648
theorem ml_X0_100 (E : Et) (e : E.y.cls = RX0) : ML E 100 e_X1_byteOf := by
  unfold ML; rw [e]; exact Or.inl q2203
theorem ml_X0_103 (E : Et) (e : E.y.cls = RX0) : ML E 103 e_X23_byteOf := by
  unfold ML; rw [e]; exact Or.inl q3661
theorem ml_X0_104 (E : Et) (e : E.y.cls = RX0) : ML E 104 e_X1_root := by
  unfold ML; rw [e]; exact Or.inl q2207
theorem ml_X0_107 (E : Et) (e : E.y.cls = RX0) : ML E 107 e_X23_root := by
  unfold ML; rw [e]; exact Or.inl q3665
theorem ml_X0_108 (E : Et) (e : E.y.cls = RX0) : ML E 108 e_X1_slips := by
  unfold ML; rw [e]; exact Or.inl q2328
theorem ml_X0_111 (E : Et) (e : E.y.cls = RX0) : ML E 111 e_X23_slips := by
  unfold ML; rw [e]; exact Or.inl q3739
theorem ml_X23_21 (E : Et) (e : E.y.cls = RX23) : ML E 21 e_X29_number := by
  unfold ML; rw [e]; exact Or.inl q2900
theorem ml_X23_37 (E : Et) (e : E.y.cls = RX23) : ML E 37 e_X23_loadOne := by
  unfold ML; rw [e]; exact Or.inl q3343
theorem ml_X23_54 (E : Et) (e : E.y.cls = RX23) : ML E 54 e_X24_make := by
  unfold ML; rw [e]; exact Or.inl q3347
theorem ml_X23_63 (E : Et) (e : E.y.cls = RX23) : ML E 63 e_X24_add := by
  unfold ML; rw [e]; exact Or.inl q3351
theorem ml_X23_67 (E : Et) (e : E.y.cls = RX23) : ML E 67 e_X23_keepOne := by
  unfold ML; rw [e]; exact Or.inl q3612
theorem ml_X23_80 (E : Et) (e : E.y.cls = RX23) : ML E 80 e_X24_count := by
  unfold ML; rw [e]; exact Or.inl q3541
theorem ml_X23_90 (E : Et) (e : E.y.cls = RX23) : ML E 90 e_X23_addOne := by
  unfold ML; rw [e]; exact Or.inl q3656
theorem ml_X23_98 (E : Et) (e : E.y.cls = RX23) : ML E 98 e_X27_add := by
  unfold ML; rw [e]; exact Or.inl q3549
theorem ml_X23_102 (E : Et) (e : E.y.cls = RX23) : ML E 102 e_X27_addNumber := by
  unfold ML; rw [e]; exact Or.inl q3660
theorem ml_X23_106 (E : Et) (e : E.y.cls = RX23) : ML E 106 e_X23_findModule := by
  unfold ML; rw [e]; exact Or.inl q2896
theorem ml_X23_115 (E : Et) (e : E.y.cls = RX23) : ML E 115 e_X29_abilitiesOf := by
  unfold ML; rw [e]; exact Or.inl q3083
theorem ml_X23_126 (E : Et) (e : E.y.cls = RX23) : ML E 126 e_X29_flags := by
  unfold ML; rw [e]; exact Or.inl q2916
theorem ml_X23_129 (E : Et) (e : E.y.cls = RX23) : ML E 129 e_X23_coinMany := by
  unfold ML; rw [e]; exact Or.inl q3115
theorem ml_X23_133 (E : Et) (e : E.y.cls = RX23) : ML E 133 e_X29_many := by
  unfold ML; rw [e]; exact Or.inl q2920
theorem ml_X23_136 (E : Et) (e : E.y.cls = RX23) : ML E 136 e_X23_coinType := by
  unfold ML; rw [e]; exact Or.inl q3122
theorem ml_X23_140 (E : Et) (e : E.y.cls = RX23) : ML E 140 e_X29_listed := by
  unfold ML; rw [e]; exact Or.inl q2940
theorem ml_X23_143 (E : Et) (e : E.y.cls = RX23) : ML E 143 e_X29_identity := by
  unfold ML; rw [e]; exact Or.inl q3070
theorem ml_X23_150 (E : Et) (e : E.y.cls = RX23) : ML E 150 e_X23_endsInStructure := by
  unfold ML; rw [e]; exact Or.inl q3132
theorem ml_X23_154 (E : Et) (e : E.y.cls = RX23) : ML E 154 e_X23_identityThere := by
  unfold ML; rw [e]; exact Or.inl q3137
theorem ml_X23_157 (E : Et) (e : E.y.cls = RX23) : ML E 157 e_X23_manyThere := by
  unfold ML; rw [e]; exact Or.inl q3111
theorem ml_X23_161 (E : Et) (e : E.y.cls = RX23) : ML E 161 e_X23_typeThere := by
  unfold ML; rw [e]; exact Or.inl q3118
theorem ml_X23_165 (E : Et) (e : E.y.cls = RX23) : ML E 165 e_X23_isSame := by
  unfold ML; rw [e]; exact Or.inl q3128
theorem ml_X23_169 (E : Et) (e : E.y.cls = RX23) : ML E 169 e_X29_foreignModule := by
  unfold ML; rw [e]; exact Or.inl q3095
theorem ml_X23_172 (E : Et) (e : E.y.cls = RX23) : ML E 172 e_X29_foreignNumber := by
  unfold ML; rw [e]; exact Or.inl q3099
theorem ml_X23_175 (E : Et) (e : E.y.cls = RX23) : ML E 175 e_X23_isThere := by
  unfold ML; rw [e]; exact Or.inl q3075
theorem ml_X23_179 (E : Et) (e : E.y.cls = RX23) : ML E 179 e_X23_flagsThere := by
  unfold ML; rw [e]; exact Or.inl q3103
theorem ml_X23_182 (E : Et) (e : E.y.cls = RX23) : ML E 182 e_X23_isSameList := by
  unfold ML; rw [e]; exact Or.inl q3107
theorem ml_X23_186 (E : Et) (e : E.y.cls = RX23) : ML E 186 e_X29_structureCount := by
  unfold ML; rw [e]; exact Or.inl q3066
theorem ml_X23_192 (E : Et) (e : E.y.cls = RX23) : ML E 192 e_X29_fieldsOf := by
  unfold ML; rw [e]; exact Or.inr ⟨_, List.mem_filter.mpr ⟨q3169, rfl⟩⟩
theorem ml_X23_195 (E : Et) (e : E.y.cls = RX23) : ML E 195 e_X29_field := by
  unfold ML; rw [e]; exact Or.inl q3170
theorem ml_X23_199 (E : Et) (e : E.y.cls = RX23) : ML E 199 e_X23_depthOf := by
  unfold ML; rw [e]; exact Or.inl q3171
theorem ml_X23_203 (E : Et) (e : E.y.cls = RX23) : ML E 203 e_J5_max := by
  unfold ML; rw [e]; exact Or.inl q3175
theorem ml_X23_208 (E : Et) (e : E.y.cls = RX23) : ML E 208 e_X29_read := by
  unfold ML; rw [e]; exact Or.inl q2971
theorem ml_X23_218 (E : Et) (e : E.y.cls = RX23) : ML E 218 e_X23_tell := by
  unfold ML; rw [e]; exact Or.inl q3062
theorem ml_X23_221 (E : Et) (e : E.y.cls = RX23) : ML E 221 e_X23_abilitiesThere := by
  unfold ML; rw [e]; exact Or.inl q3079
theorem ml_X23_224 (E : Et) (e : E.y.cls = RX23) : ML E 224 e_X29_functionCount := by
  unfold ML; rw [e]; exact Or.inl q3087
theorem ml_X23_227 (E : Et) (e : E.y.cls = RX23) : ML E 227 e_X23_isFunctionAs := by
  unfold ML; rw [e]; exact Or.inl q3091
theorem ml_X23_235 (E : Et) (e : E.y.cls = RX23) : ML E 235 e_X25_bears := by
  unfold ML; rw [e]; exact Or.inl q3141
theorem ml_X23_240 (E : Et) (e : E.y.cls = RX23) : ML E 240 e_X23_measure := by
  unfold ML; rw [e]; exact Or.inl q3165
theorem ml_X23_243 (E : Et) (e : E.y.cls = RX23) : ML E 243 e_X25_check := by
  unfold ML; rw [e]; exact Or.inl q3176
theorem ml_X23_257 (E : Et) (e : E.y.cls = RX23) : ML E 257 e_X23_goesOn := by
  unfold ML; rw [e]; exact Or.inl q2962
theorem ml_X23_267 (E : Et) (e : E.y.cls = RX23) : ML E 267 e_X23_end := by
  unfold ML; rw [e]; exact Or.inl q2950
theorem ml_X23_288 (E : Et) (e : E.y.cls = RX23) : ML E 288 e_X23_findAccount := by
  unfold ML; rw [e]; exact Or.inl q2843
theorem ml_X23_292 (E : Et) (e : E.y.cls = RX23) : ML E 292 e_X23_findResource := by
  unfold ML; rw [e]; exact Or.inl q3335
theorem ml_X23_306 (E : Et) (e : E.y.cls = RX23) : ML E 306 e_X23_load := by
  unfold ML; rw [e]; exact Or.inl q3339
theorem ml_X23_318 (E : Et) (e : E.y.cls = RX23) : ML E 318 e_X23_push := by
  unfold ML; rw [e]; exact Or.inl q3355
theorem ml_X23_331 (E : Et) (e : E.y.cls = RX23) : ML E 331 e_X23_slip := by
  unfold ML; rw [e]; exact Or.inl q3372
theorem ml_X23_337 (E : Et) (e : E.y.cls = RX23) : ML E 337 e_X23_takeAny := by
  unfold ML; rw [e]; exact Or.inl q3390
theorem ml_X23_341 (E : Et) (e : E.y.cls = RX23) : ML E 341 e_X23_take := by
  unfold ML; rw [e]; exact Or.inl q3386
theorem ml_X23_344 (E : Et) (e : E.y.cls = RX23) : ML E 344 e_X23_local := by
  unfold ML; rw [e]; exact Or.inl q3363
theorem ml_X23_353 (E : Et) (e : E.y.cls = RX23) : ML E 353 e_X23_spend := by
  unfold ML; rw [e]; exact Or.inl q2958
theorem ml_X23_357 (E : Et) (e : E.y.cls = RX23) : ML E 357 e_X24_sizeOf := by
  unfold ML; rw [e]; exact Or.inl q3406
theorem ml_X23_360 (E : Et) (e : E.y.cls = RX23) : ML E 360 e_X24_copy := by
  unfold ML; rw [e]; exact Or.inl q3411
theorem ml_X23_363 (E : Et) (e : E.y.cls = RX23) : ML E 363 e_X24_become := by
  unfold ML; rw [e]; exact Or.inl q3422
theorem ml_X23_366 (E : Et) (e : E.y.cls = RX23) : ML E 366 e_X24_part := by
  unfold ML; rw [e]; exact Or.inl q3426
theorem ml_X23_377 (E : Et) (e : E.y.cls = RX23) : ML E 377 e_X23_bitsOf := by
  unfold ML; rw [e]; exact Or.inl q3463
theorem ml_X23_380 (E : Et) (e : E.y.cls = RX23) : ML E 380 e_X26_reckon := by
  unfold ML; rw [e]; exact Or.inl q3475
theorem ml_X23_392 (E : Et) (e : E.y.cls = RX23) : ML E 392 e_X23_make := by
  unfold ML; rw [e]; exact Or.inl q3398
theorem ml_X23_395 (E : Et) (e : E.y.cls = RX23) : ML E 395 e_X24_isAlike := by
  unfold ML; rw [e]; exact Or.inl q3518
theorem ml_X23_399 (E : Et) (e : E.y.cls = RX23) : ML E 399 e_X26_compare := by
  unfold ML; rw [e]; exact Or.inl q3523
theorem ml_X23_403 (E : Et) (e : E.y.cls = RX23) : ML E 403 e_X26_shift := by
  unfold ML; rw [e]; exact Or.inl q3466
theorem ml_X23_407 (E : Et) (e : E.y.cls = RX23) : ML E 407 e_X26_isOf := by
  unfold ML; rw [e]; exact Or.inl q3528
theorem ml_X23_414 (E : Et) (e : E.y.cls = RX23) : ML E 414 e_X23_ask := by
  unfold ML; rw [e]; exact Or.inl q3331
theorem ml_X23_418 (E : Et) (e : E.y.cls = RX23) : ML E 418 e_X23_digest := by
  unfold ML; rw [e]; exact Or.inl q3537
theorem ml_X23_421 (E : Et) (e : E.y.cls = RX23) : ML E 421 e_X23_takeLong := by
  unfold ML; rw [e]; exact Or.inl q3446
theorem ml_X23_427 (E : Et) (e : E.y.cls = RX23) : ML E 427 e_X24_takeLast := by
  unfold ML; rw [e]; exact Or.inl q3587
theorem ml_X23_430 (E : Et) (e : E.y.cls = RX23) : ML E 430 e_X24_swap := by
  unfold ML; rw [e]; exact Or.inl q3591
theorem ml_X23_433 (E : Et) (e : E.y.cls = RX23) : ML E 433 e_X27_begin := by
  unfold ML; rw [e]; exact Or.inl q3545
theorem ml_X23_436 (E : Et) (e : E.y.cls = RX23) : ML E 436 e_X27_end := by
  unfold ML; rw [e]; exact Or.inl q3553
theorem ml_X23_438 (E : Et) (e : E.y.cls = RX23) : ML E 438 e_X27_byteOf := by
  unfold ML; rw [e]; exact Or.inl q3582
theorem ml_X23_448 (E : Et) (e : E.y.cls = RX23) : ML E 448 e_X23_coin := by
  unfold ML; rw [e]; exact Or.inl q3442
theorem ml_X23_451 (E : Et) (e : E.y.cls = RX23) : ML E 451 e_X23_enter := by
  unfold ML; rw [e]; exact Or.inl q3359
theorem ml_X23_459 (E : Et) (e : E.y.cls = RX23) : ML E 459 e_X23_isBelow := by
  unfold ML; rw [e]; exact Or.inl q3450
theorem ml_X23_463 (E : Et) (e : E.y.cls = RX23) : ML E 463 e_X23_makeCoin := by
  unfold ML; rw [e]; exact Or.inl q3454
theorem ml_X23_467 (E : Et) (e : E.y.cls = RX23) : ML E 467 e_X29_instructions := by
  unfold ML; rw [e]; exact Or.inl q3371
theorem ml_X23_470 (E : Et) (e : E.y.cls = RX23) : ML E 470 e_X29_operation := by
  unfold ML; rw [e]; exact Or.inl q3376
theorem ml_X23_473 (E : Et) (e : E.y.cls = RX23) : ML E 473 e_X29_operand := by
  unfold ML; rw [e]; exact Or.inl q3377
theorem ml_X23_476 (E : Et) (e : E.y.cls = RX23) : ML E 476 e_X23_giveBack := by
  unfold ML; rw [e]; exact Or.inl q3378
theorem ml_X23_479 (E : Et) (e : E.y.cls = RX23) : ML E 479 e_X23_branch := by
  unfold ML; rw [e]; exact Or.inl q3382
theorem ml_X23_482 (E : Et) (e : E.y.cls = RX23) : ML E 482 e_X23_constant := by
  unfold ML; rw [e]; exact Or.inl q3394
theorem ml_X23_485 (E : Et) (e : E.y.cls = RX23) : ML E 485 e_X23_onLocal := by
  unfold ML; rw [e]; exact Or.inl q3402
theorem ml_X23_488 (E : Et) (e : E.y.cls = RX23) : ML E 488 e_X23_onReference := by
  unfold ML; rw [e]; exact Or.inl q3418
theorem ml_X23_491 (E : Et) (e : E.y.cls = RX23) : ML E 491 e_X23_pack := by
  unfold ML; rw [e]; exact Or.inl q3430
theorem ml_X23_494 (E : Et) (e : E.y.cls = RX23) : ML E 494 e_X23_unpack := by
  unfold ML; rw [e]; exact Or.inl q3434
theorem ml_X23_497 (E : Et) (e : E.y.cls = RX23) : ML E 497 e_X23_enterCall := by
  unfold ML; rw [e]; exact Or.inl q3438
theorem ml_X23_500 (E : Et) (e : E.y.cls = RX23) : ML E 500 e_X23_shift := by
  unfold ML; rw [e]; exact Or.inl q3459
theorem ml_X23_503 (E : Et) (e : E.y.cls = RX23) : ML E 503 e_X23_reckon := by
  unfold ML; rw [e]; exact Or.inl q3471
theorem ml_X23_505 (E : Et) (e : E.y.cls = RX23) : ML E 505 e_X23_convert := by
  unfold ML; rw [e]; exact Or.inl q3524
theorem ml_X23_508 (E : Et) (e : E.y.cls = RX23) : ML E 508 e_X23_onResource := by
  unfold ML; rw [e]; exact Or.inl q3529
theorem ml_X23_511 (E : Et) (e : E.y.cls = RX23) : ML E 511 e_X23_onVector := by
  unfold ML; rw [e]; exact Or.inl q3533
theorem ml_X23_522 (E : Et) (e : E.y.cls = RX23) : ML E 522 e_X24_init := by
  unfold ML; rw [e]; exact Or.inr ⟨_, List.mem_filter.mpr ⟨q2345, rfl⟩⟩
theorem ml_X23_523 (E : Et) (e : E.y.cls = RX23) : ML E 523 e_X25_init := by
  unfold ML; rw [e]; exact Or.inr ⟨_, List.mem_filter.mpr ⟨q2376, rfl⟩⟩
theorem ml_X23_524 (E : Et) (e : E.y.cls = RX23) : ML E 524 e_X26_init := by
  unfold ML; rw [e]; exact Or.inr ⟨_, List.mem_filter.mpr ⟨q2451, rfl⟩⟩
theorem ml_X23_525 (E : Et) (e : E.y.cls = RX23) : ML E 525 e_X27_init := by
  unfold ML; rw [e]; exact Or.inr ⟨_, List.mem_filter.mpr ⟨q2475, rfl⟩⟩
theorem ml_X23_528 (E : Et) (e : E.y.cls = RX23) : ML E 528 e_X28_init := by
  unfold ML; rw [e]; exact Or.inl q2496
theorem ml_X23_608 (E : Et) (e : E.y.cls = RX23) : ML E 608 e_X29_init := by
  unfold ML; rw [e]; exact Or.inr ⟨_, List.mem_filter.mpr ⟨q2536, rfl⟩⟩
theorem ml_X23_620 (E : Et) (e : E.y.cls = RX23) : ML E 620 e_X23_placeCount := by
  unfold ML; rw [e]; exact Or.inl q2847
theorem ml_X23_623 (E : Et) (e : E.y.cls = RX23) : ML E 623 e_X23_newAccount := by
  unfold ML; rw [e]; exact Or.inl q2851
theorem ml_X23_631 (E : Et) (e : E.y.cls = RX23) : ML E 631 e_X23_isLimit := by
  unfold ML; rw [e]; exact Or.inl q2863
theorem ml_X23_634 (E : Et) (e : E.y.cls = RX23) : ML E 634 e_X23_add := by
  unfold ML; rw [e]; exact Or.inl q2866
theorem ml_X23_643 (E : Et) (e : E.y.cls = RX23) : ML E 643 e_X23_doOne := by
  unfold ML; rw [e]; exact Or.inl q2892
theorem ml_X23_646 (E : Et) (e : E.y.cls = RX23) : ML E 646 e_X23_refusal := by
  unfold ML; rw [e]; exact Or.inl q2912
theorem ml_X23_649 (E : Et) (e : E.y.cls = RX23) : ML E 649 e_X23_publishOne := by
  unfold ML; rw [e]; exact Or.inl q2954
theorem ml_X23_652 (E : Et) (e : E.y.cls = RX23) : ML E 652 e_X23_callOne := by
  unfold ML; rw [e]; exact Or.inl q3327
theorem ml_X23_655 (E : Et) (e : E.y.cls = RX23) : ML E 655 e_X23_takeModule := by
  unfold ML; rw [e]; exact Or.inl q2967
theorem ml_X23_662 (E : Et) (e : E.y.cls = RX23) : ML E 662 e_X23_one := by
  unfold ML; rw [e]; exact Or.inl q3367
theorem ml_X23_665 (E : Et) (e : E.y.cls = RX23) : ML E 665 e_X23_isTooMuch := by
  unfold ML; rw [e]; exact Or.inl q3596
theorem ml_X23_668 (E : Et) (e : E.y.cls = RX23) : ML E 668 e_X23_settle := by
  unfold ML; rw [e]; exact Or.inl q3600
theorem ml_X23_671 (E : Et) (e : E.y.cls = RX23) : ML E 671 e_X23_removeResource := by
  unfold ML; rw [e]; exact Or.inl q3604
theorem ml_X23_674 (E : Et) (e : E.y.cls = RX23) : ML E 674 e_X23_keep := by
  unfold ML; rw [e]; exact Or.inl q3608
theorem ml_X23_677 (E : Et) (e : E.y.cls = RX23) : ML E 677 e_X23_isDone := by
  unfold ML; rw [e]; exact Or.inl q3620
theorem ml_X23_680 (E : Et) (e : E.y.cls = RX23) : ML E 680 e_X23_coinsIn := by
  unfold ML; rw [e]; exact Or.inl q3640
theorem ml_X23_687 (E : Et) (e : E.y.cls = RX23) : ML E 687 e_X23_addBytes := by
  unfold ML; rw [e]; exact Or.inl q3652
theorem ml_X23_694 (E : Et) (e : E.y.cls = RX23) : ML E 694 e_X27_four := by
  unfold ML; rw [e]; exact Or.inl q3677
theorem ml_X23_697 (E : Et) (e : E.y.cls = RX23) : ML E 697 e_X28_begin := by
  unfold ML; rw [e]; exact Or.inl q3669
theorem ml_X23_698 (E : Et) (e : E.y.cls = RX23) : ML E 698 e_X23_keepFour := by
  unfold ML; rw [e]; exact Or.inl q3673
theorem ml_X23_702 (E : Et) (e : E.y.cls = RX23) : ML E 702 e_X28_put := by
  unfold ML; rw [e]; exact Or.inl q3681
theorem ml_X23_712 (E : Et) (e : E.y.cls = RX23) : ML E 712 e_X28_all := by
  unfold ML; rw [e]; exact Or.inl q3705
theorem ml_X23_715 (E : Et) (e : E.y.cls = RX23) : ML E 715 e_X28_get := by
  unfold ML; rw [e]; exact Or.inl q3735
theorem ml_X27_24 (E : Et) (e : E.y.cls = RX27) : ML E 24 e_X27_add := by
  unfold ML; rw [e]; exact Or.inl q3565
theorem ml_X27_48 (E : Et) (e : E.y.cls = RX27) : ML E 48 e_X27_addNumber := by
  unfold ML; rw [e]; exact Or.inl q3567
theorem ml_X27_52 (E : Et) (e : E.y.cls = RX27) : ML E 52 e_X27_block := by
  unfold ML; rw [e]; exact Or.inl q3571
theorem ml_X27_57 (E : Et) (e : E.y.cls = RX27) : ML E 57 e_X27_turned := by
  unfold ML; rw [e]; exact Or.inl q3576
theorem ml_X25_52 (E : Et) (e : E.y.cls = RX25) : ML E 52 e_X25_fail := by
  unfold ML; rw [e]; exact Or.inl q3210
theorem ml_X25_58 (E : Et) (e : E.y.cls = RX25) : ML E 58 e_X25_bytesOf := by
  unfold ML; rw [e]; exact Or.inl q3158
theorem ml_X25_62 (E : Et) (e : E.y.cls = RX25) : ML E 62 e_X25_byteOf := by
  unfold ML; rw [e]; exact Or.inl q3161
theorem ml_X25_68 (E : Et) (e : E.y.cls = RX25) : ML E 68 e_X25_isReference := by
  unfold ML; rw [e]; exact Or.inl q3155
theorem ml_X25_76 (E : Et) (e : E.y.cls = RX25) : ML E 76 e_X29_abilitiesOf := by
  unfold ML; rw [e]; exact Or.inl q3145
theorem ml_X25_82 (E : Et) (e : E.y.cls = RX25) : ML E 82 e_X25_abilitiesFor := by
  unfold ML; rw [e]; exact Or.inl q3151
theorem ml_X25_85 (E : Et) (e : E.y.cls = RX25) : ML E 85 e_X29_fieldsOf := by
  unfold ML; rw [e]; exact Or.inr ⟨_, List.mem_filter.mpr ⟨q3146, rfl⟩⟩
theorem ml_X25_88 (E : Et) (e : E.y.cls = RX25) : ML E 88 e_X29_field := by
  unfold ML; rw [e]; exact Or.inl q3147
theorem ml_X25_95 (E : Et) (e : E.y.cls = RX25) : ML E 95 e_X25_push := by
  unfold ML; rw [e]; exact Or.inl q3241
theorem ml_X25_110 (E : Et) (e : E.y.cls = RX25) : ML E 110 e_X25_take := by
  unfold ML; rw [e]; exact Or.inl q3218
theorem ml_X25_113 (E : Et) (e : E.y.cls = RX25) : ML E 113 e_X25_pointed := by
  unfold ML; rw [e]; exact Or.inl q3271
theorem ml_X25_117 (E : Et) (e : E.y.cls = RX25) : ML E 117 e_X25_need := by
  unfold ML; rw [e]; exact Or.inl q3206
theorem ml_X25_121 (E : Et) (e : E.y.cls = RX25) : ML E 121 e_X25_writes := by
  unfold ML; rw [e]; exact Or.inl q3253
theorem ml_X25_130 (E : Et) (e : E.y.cls = RX25) : ML E 130 e_X25_isNumber := by
  unfold ML; rw [e]; exact Or.inl q3295
theorem ml_X25_133 (E : Et) (e : E.y.cls = RX25) : ML E 133 e_X25_take_2 := by
  unfold ML; rw [e]; exact Or.inl q3231
theorem ml_X25_139 (E : Et) (e : E.y.cls = RX25) : ML E 139 e_X25_has := by
  unfold ML; rw [e]; exact Or.inl q3222
theorem ml_X25_143 (E : Et) (e : E.y.cls = RX25) : ML E 143 e_X25_isPointed := by
  unfold ML; rw [e]; exact Or.inl q3249
theorem ml_X25_147 (E : Et) (e : E.y.cls = RX25) : ML E 147 e_X25_before := by
  unfold ML; rw [e]; exact Or.inl q3256
theorem ml_X25_151 (E : Et) (e : E.y.cls = RX25) : ML E 151 e_X25_structureType := by
  unfold ML; rw [e]; exact Or.inl q3263
theorem ml_X25_155 (E : Et) (e : E.y.cls = RX25) : ML E 155 e_X25_takeReference := by
  unfold ML; rw [e]; exact Or.inl q3267
theorem ml_X25_159 (E : Et) (e : E.y.cls = RX25) : ML E 159 e_X25_give := by
  unfold ML; rw [e]; exact Or.inl q3237
theorem ml_X25_162 (E : Et) (e : E.y.cls = RX25) : ML E 162 e_X25_isSole := by
  unfold ML; rw [e]; exact Or.inl q3274
theorem ml_X25_165 (E : Et) (e : E.y.cls = RX25) : ML E 165 e_X29_many := by
  unfold ML; rw [e]; exact Or.inl q3188
theorem ml_X25_169 (E : Et) (e : E.y.cls = RX25) : ML E 169 e_X29_listed := by
  unfold ML; rw [e]; exact Or.inl q3189
theorem ml_X25_173 (E : Et) (e : E.y.cls = RX25) : ML E 173 e_X29_flags := by
  unfold ML; rw [e]; exact Or.inl q3286
theorem ml_X25_179 (E : Et) (e : E.y.cls = RX25) : ML E 179 e_X25_takeNumbers := by
  unfold ML; rw [e]; exact Or.inl q3291
theorem ml_X25_189 (E : Et) (e : E.y.cls = RX25) : ML E 189 e_X29_element := by
  unfold ML; rw [e]; exact Or.inl q3310
theorem ml_X25_194 (E : Et) (e : E.y.cls = RX25) : ML E 194 e_X25_giveBack := by
  unfold ML; rw [e]; exact Or.inl q3226
theorem ml_X25_197 (E : Et) (e : E.y.cls = RX25) : ML E 197 e_X25_onLocal := by
  unfold ML; rw [e]; exact Or.inl q3245
theorem ml_X25_201 (E : Et) (e : E.y.cls = RX25) : ML E 201 e_X25_onReference := by
  unfold ML; rw [e]; exact Or.inl q3259
theorem ml_X25_205 (E : Et) (e : E.y.cls = RX25) : ML E 205 e_X25_pack := by
  unfold ML; rw [e]; exact Or.inl q3278
theorem ml_X25_208 (E : Et) (e : E.y.cls = RX25) : ML E 208 e_X25_call := by
  unfold ML; rw [e]; exact Or.inl q3282
theorem ml_X25_211 (E : Et) (e : E.y.cls = RX25) : ML E 211 e_X25_onNumbers := by
  unfold ML; rw [e]; exact Or.inl q3287
theorem ml_X25_214 (E : Et) (e : E.y.cls = RX25) : ML E 214 e_X25_onResource := by
  unfold ML; rw [e]; exact Or.inl q3301
theorem ml_X25_217 (E : Et) (e : E.y.cls = RX25) : ML E 217 e_X25_onVector := by
  unfold ML; rw [e]; exact Or.inl q3305
theorem ml_X25_220 (E : Et) (e : E.y.cls = RX25) : ML E 220 e_X25_meet := by
  unfold ML; rw [e]; exact Or.inl q3318
theorem ml_X25_223 (E : Et) (e : E.y.cls = RX25) : ML E 223 e_X25_back := by
  unfold ML; rw [e]; exact Or.inl q3322
theorem ml_X25_228 (E : Et) (e : E.y.cls = RX25) : ML E 228 e_X29_instructions := by
  unfold ML; rw [e]; exact Or.inl q3184
theorem ml_X25_233 (E : Et) (e : E.y.cls = RX25) : ML E 233 e_X29_operation := by
  unfold ML; rw [e]; exact Or.inl q3190
theorem ml_X25_236 (E : Et) (e : E.y.cls = RX25) : ML E 236 e_X29_operand := by
  unfold ML; rw [e]; exact Or.inl q3194
theorem ml_X25_239 (E : Et) (e : E.y.cls = RX25) : ML E 239 e_X25_operate := by
  unfold ML; rw [e]; exact Or.inl q3214
theorem ml_X25_242 (E : Et) (e : E.y.cls = RX25) : ML E 242 e_X25_come := by
  unfold ML; rw [e]; exact Or.inl q3314
theorem ml_X25_245 (E : Et) (e : E.y.cls = RX25) : ML E 245 e_X25_begin := by
  unfold ML; rw [e]; exact Or.inl q3180
theorem ml_X25_248 (E : Et) (e : E.y.cls = RX25) : ML E 248 e_X25_look := by
  unfold ML; rw [e]; exact Or.inl q3202
theorem ml_X28_47 (E : Et) (e : E.y.cls = RX28) : ML E 47 e_X28_order := by
  unfold ML; rw [e]; exact Or.inl q3689
theorem ml_X28_51 (E : Et) (e : E.y.cls = RX28) : ML E 51 e_X28_isBehind := by
  unfold ML; rw [e]; exact Or.inl q3685
theorem ml_X28_55 (E : Et) (e : E.y.cls = RX28) : ML E 55 e_X28_isAt := by
  unfold ML; rw [e]; exact Or.inl q3693
theorem ml_X28_58 (E : Et) (e : E.y.cls = RX28) : ML E 58 e_X28_isLess := by
  unfold ML; rw [e]; exact Or.inl q3697
theorem ml_X28_62 (E : Et) (e : E.y.cls = RX28) : ML E 62 e_X28_keep := by
  unfold ML; rw [e]; exact Or.inl q3701
theorem ml_X28_66 (E : Et) (e : E.y.cls = RX28) : ML E 66 e_X27_addNumber := by
  unfold ML; rw [e]; exact Or.inl q3715
theorem ml_X28_72 (E : Et) (e : E.y.cls = RX28) : ML E 72 e_X27_end := by
  unfold ML; rw [e]; exact Or.inl q3720
theorem ml_X28_75 (E : Et) (e : E.y.cls = RX28) : ML E 75 e_X27_four := by
  unfold ML; rw [e]; exact Or.inl q3721
theorem ml_X28_82 (E : Et) (e : E.y.cls = RX28) : ML E 82 e_X27_begin := by
  unfold ML; rw [e]; exact Or.inl q3709
theorem ml_X28_85 (E : Et) (e : E.y.cls = RX28) : ML E 85 e_X27_add := by
  unfold ML; rw [e]; exact Or.inl q3710
theorem ml_X28_89 (E : Et) (e : E.y.cls = RX28) : ML E 89 e_X28_add := by
  unfold ML; rw [e]; exact Or.inl q3711
theorem ml_X28_92 (E : Et) (e : E.y.cls = RX28) : ML E 92 e_X28_keepHash := by
  unfold ML; rw [e]; exact Or.inl q3716
theorem ml_X28_95 (E : Et) (e : E.y.cls = RX28) : ML E 95 e_X28_parting := by
  unfold ML; rw [e]; exact Or.inl q3722
theorem ml_X28_99 (E : Et) (e : E.y.cls = RX28) : ML E 99 e_J5_max := by
  unfold ML; rw [e]; exact Or.inl q3726
theorem ml_X28_105 (E : Et) (e : E.y.cls = RX28) : ML E 105 e_X28_level := by
  unfold ML; rw [e]; exact Or.inl q3727
theorem ml_X28_108 (E : Et) (e : E.y.cls = RX28) : ML E 108 e_X28_agree := by
  unfold ML; rw [e]; exact Or.inl q3731
theorem ml_X24_31 (E : Et) (e : E.y.cls = RX24) : ML E 31 e_X24_sizeOf := by
  unfold ML; rw [e]; exact Or.inl q3410
theorem ml_X24_35 (E : Et) (e : E.y.cls = RX24) : ML E 35 e_X24_make := by
  unfold ML; rw [e]; exact Or.inl q3415
theorem ml_X24_39 (E : Et) (e : E.y.cls = RX24) : ML E 39 e_X24_copy := by
  unfold ML; rw [e]; exact Or.inl q3416
theorem ml_X24_42 (E : Et) (e : E.y.cls = RX24) : ML E 42 e_X24_add := by
  unfold ML; rw [e]; exact Or.inl q3417
theorem ml_X24_46 (E : Et) (e : E.y.cls = RX24) : ML E 46 e_X24_isAlike := by
  unfold ML; rw [e]; exact Or.inl q3522
theorem ml_X24_50 (E : Et) (e : E.y.cls = RX24) : ML E 50 e_X24_become := by
  unfold ML; rw [e]; exact Or.inl q3595
theorem ml_X29_46 (E : Et) (e : E.y.cls = RX29) : ML E 46 e_X29_byteAt := by
  unfold ML; rw [e]; exact Or.inl q2908
theorem ml_X29_53 (E : Et) (e : E.y.cls = RX29) : ML E 53 e_X29_fail := by
  unfold ML; rw [e]; exact Or.inl q2987
theorem ml_X29_57 (E : Et) (e : E.y.cls = RX29) : ML E 57 e_X29_over := by
  unfold ML; rw [e]; exact Or.inl q2983
theorem ml_X29_60 (E : Et) (e : E.y.cls = RX29) : ML E 60 e_X29_isGood := by
  unfold ML; rw [e]; exact Or.inl q2979
theorem ml_X29_64 (E : Et) (e : E.y.cls = RX29) : ML E 64 e_X29_count := by
  unfold ML; rw [e]; exact Or.inl q2991
theorem ml_X29_68 (E : Et) (e : E.y.cls = RX29) : ML E 68 e_X29_overType := by
  unfold ML; rw [e]; exact Or.inl q2995
theorem ml_X29_75 (E : Et) (e : E.y.cls = RX29) : ML E 75 e_X29_operandBytes := by
  unfold ML; rw [e]; exact Or.inl q3015
theorem ml_X29_78 (E : Et) (e : E.y.cls = RX29) : ML E 78 e_X29_overLists := by
  unfold ML; rw [e]; exact Or.inl q3007
theorem ml_X29_82 (E : Et) (e : E.y.cls = RX29) : ML E 82 e_X29_shortAt := by
  unfold ML; rw [e]; exact Or.inl q2904
theorem ml_X29_85 (E : Et) (e : E.y.cls = RX29) : ML E 85 e_X29_overInstruction := by
  unfold ML; rw [e]; exact Or.inl q3011
theorem ml_X29_88 (E : Et) (e : E.y.cls = RX29) : ML E 88 e_X29_overList := by
  unfold ML; rw [e]; exact Or.inl q2999
theorem ml_X29_107 (E : Et) (e : E.y.cls = RX29) : ML E 107 e_X29_overFunction := by
  unfold ML; rw [e]; exact Or.inl q3003
theorem ml_X29_110 (E : Et) (e : E.y.cls = RX29) : ML E 110 e_X29_typeEnd := by
  unfold ML; rw [e]; exact Or.inl q2936
theorem ml_X29_113 (E : Et) (e : E.y.cls = RX29) : ML E 113 e_X29_isStructureType := by
  unfold ML; rw [e]; exact Or.inl q3030
theorem ml_X29_117 (E : Et) (e : E.y.cls = RX29) : ML E 117 e_X29_lookType := by
  unfold ML; rw [e]; exact Or.inl q3026
theorem ml_X29_120 (E : Et) (e : E.y.cls = RX29) : ML E 120 e_X29_lookOwn := by
  unfold ML; rw [e]; exact Or.inl q3046
theorem ml_X29_123 (E : Et) (e : E.y.cls = RX29) : ML E 123 e_X29_fieldsOf := by
  unfold ML; rw [e]; exact Or.inl q3022
theorem ml_X29_126 (E : Et) (e : E.y.cls = RX29) : ML E 126 e_X29_lookList := by
  unfold ML; rw [e]; exact Or.inl q3034
theorem ml_X29_129 (E : Et) (e : E.y.cls = RX29) : ML E 129 e_X29_manyIn := by
  unfold ML; rw [e]; exact Or.inl q3038
theorem ml_X29_132 (E : Et) (e : E.y.cls = RX29) : ML E 132 e_X29_lookInstruction := by
  unfold ML; rw [e]; exact Or.inl q3042
theorem ml_X29_136 (E : Et) (e : E.y.cls = RX29) : ML E 136 e_X29_listEnd := by
  unfold ML; rw [e]; exact Or.inl q2932
theorem ml_X29_139 (E : Et) (e : E.y.cls = RX29) : ML E 139 e_X29_listAt := by
  unfold ML; rw [e]; exact Or.inl q2928
theorem ml_X29_142 (E : Et) (e : E.y.cls = RX29) : ML E 142 e_X29_reach := by
  unfold ML; rw [e]; exact Or.inl q3054
theorem ml_X29_145 (E : Et) (e : E.y.cls = RX29) : ML E 145 e_X29_ownIn := by
  unfold ML; rw [e]; exact Or.inl q3058
theorem ml_X29_148 (E : Et) (e : E.y.cls = RX29) : ML E 148 e_X29_overAll := by
  unfold ML; rw [e]; exact Or.inl q2975
theorem ml_X29_151 (E : Et) (e : E.y.cls = RX29) : ML E 151 e_X29_lookAll := by
  unfold ML; rw [e]; exact Or.inl q3018
theorem ml_X29_154 (E : Et) (e : E.y.cls = RX29) : ML E 154 e_X29_isRound := by
  unfold ML; rw [e]; exact Or.inl q3050
theorem ml_X29_157 (E : Et) (e : E.y.cls = RX29) : ML E 157 e_X29_number := by
  unfold ML; rw [e]; exact Or.inl q3074
theorem ml_X29_163 (E : Et) (e : E.y.cls = RX29) : ML E 163 e_X29_typeAt := by
  unfold ML; rw [e]; exact Or.inl q2944
theorem ml_X29_167 (E : Et) (e : E.y.cls = RX29) : ML E 167 e_X29_listOf := by
  unfold ML; rw [e]; exact Or.inl q2924
theorem ml_X29_170 (E : Et) (e : E.y.cls = RX29) : ML E 170 e_X29_number_2 := by
  unfold ML; rw [e]; exact Or.inl q3198
theorem ml_X26_21 (E : Et) (e : E.y.cls = RX26) : ML E 21 e_X26_four := by
  unfold ML; rw [e]; exact Or.inl q3496
theorem ml_X26_32 (E : Et) (e : E.y.cls = RX26) : ML E 32 e_X26_isOf := by
  unfold ML; rw [e]; exact Or.inl q3499
theorem ml_X26_40 (E : Et) (e : E.y.cls = RX26) : ML E 40 e_X26_lay := by
  unfold ML; rw [e]; exact Or.inl q3479
theorem ml_X26_44 (E : Et) (e : E.y.cls = RX26) : ML E 44 e_X26_clear := by
  unfold ML; rw [e]; exact Or.inl q3483
theorem ml_X26_47 (E : Et) (e : E.y.cls = RX26) : ML E 47 e_X26_add := by
  unfold ML; rw [e]; exact Or.inl q3487
theorem ml_X26_51 (E : Et) (e : E.y.cls = RX26) : ML E 51 e_X26_compare := by
  unfold ML; rw [e]; exact Or.inl q3502
theorem ml_X26_55 (E : Et) (e : E.y.cls = RX26) : ML E 55 e_X26_subtract := by
  unfold ML; rw [e]; exact Or.inl q3506
theorem ml_X26_58 (E : Et) (e : E.y.cls = RX26) : ML E 58 e_X26_multiply := by
  unfold ML; rw [e]; exact Or.inl q3510
theorem ml_X26_61 (E : Et) (e : E.y.cls = RX26) : ML E 61 e_X26_divide := by
  unfold ML; rw [e]; exact Or.inl q3514
theorem ml_X26_66 (E : Et) (e : E.y.cls = RX26) : ML E 66 e_X26_result := by
  unfold ML; rw [e]; exact Or.inl q3492
theorem ml_J1_7 (E : Et) (e : E.y.cls = RJ1) : ML E 7 e_J0_init_2 := by
  unfold ML; rw [e]; exact Or.inl q689
theorem ml_J3_7 (E : Et) (e : E.y.cls = RJ3) : ML E 7 e_J2_init := by
  unfold ML; rw [e]; exact Or.inl q683
theorem ml_J4_7 (E : Et) (e : E.y.cls = RJ4) : ML E 7 e_J2_init := by
  unfold ML; rw [e]; exact Or.inl q776
theorem ml_J7_302 (E : Et) (e : E.y.cls = RJ7) : ML E 302 e_J7_compare := by
  unfold ML; rw [e]; exact Or.inl q1642
theorem ml_J7_308 (E : Et) (e : E.y.cls = RJ7) : ML E 308 e_J8_numberOfLeadingZeros := by
  unfold ML; rw [e]; exact Or.inl q1854
theorem ml_J2_7 (E : Et) (e : E.y.cls = RJ2) : ML E 7 e_J1_init := by
  unfold ML; rw [e]; exact Or.inl q686
theorem kb_6 : (Int8.ofInt (sg8 6)).toInt32 = (nI 6) := by decide
theorem kb_7 : (Int8.ofInt (sg8 7)).toInt32 = (nI 7) := by decide
theorem kb_8 : (Int8.ofInt (sg8 8)).toInt32 = (nI 8) := by decide
theorem kb_9 : (Int8.ofInt (sg8 9)).toInt32 = (nI 9) := by decide
theorem kb_10 : (Int8.ofInt (sg8 10)).toInt32 = (nI 10) := by decide
theorem kb_11 : (Int8.ofInt (sg8 11)).toInt32 = (nI 11) := by decide
theorem kb_12 : (Int8.ofInt (sg8 12)).toInt32 = (nI 12) := by decide
theorem kb_13 : (Int8.ofInt (sg8 13)).toInt32 = (nI 13) := by decide
theorem kb_14 : (Int8.ofInt (sg8 14)).toInt32 = (nI 14) := by decide
theorem kb_15 : (Int8.ofInt (sg8 15)).toInt32 = (nI 15) := by decide
theorem kb_16 : (Int8.ofInt (sg8 16)).toInt32 = (nI 16) := by decide
theorem kb_17 : (Int8.ofInt (sg8 17)).toInt32 = (nI 17) := by decide
theorem kb_18 : (Int8.ofInt (sg8 18)).toInt32 = (nI 18) := by decide
theorem kb_19 : (Int8.ofInt (sg8 19)).toInt32 = (nI 19) := by decide
theorem kb_20 : (Int8.ofInt (sg8 20)).toInt32 = (nI 20) := by decide
theorem kb_21 : (Int8.ofInt (sg8 21)).toInt32 = (nI 21) := by decide
theorem kb_22 : (Int8.ofInt (sg8 22)).toInt32 = (nI 22) := by decide
theorem kb_23 : (Int8.ofInt (sg8 23)).toInt32 = (nI 23) := by decide
theorem kb_24 : (Int8.ofInt (sg8 24)).toInt32 = (nI 24) := by decide
theorem kb_25 : (Int8.ofInt (sg8 25)).toInt32 = (nI 25) := by decide
theorem kb_26 : (Int8.ofInt (sg8 26)).toInt32 = (nI 26) := by decide
theorem kb_27 : (Int8.ofInt (sg8 27)).toInt32 = (nI 27) := by decide
theorem kb_28 : (Int8.ofInt (sg8 28)).toInt32 = (nI 28) := by decide
theorem kb_29 : (Int8.ofInt (sg8 29)).toInt32 = (nI 29) := by decide
theorem kb_30 : (Int8.ofInt (sg8 30)).toInt32 = (nI 30) := by decide
theorem kb_31 : (Int8.ofInt (sg8 31)).toInt32 = (nI 31) := by decide
theorem kb_32 : (Int8.ofInt (sg8 32)).toInt32 = (nI 32) := by decide
theorem kb_33 : (Int8.ofInt (sg8 33)).toInt32 = (nI 33) := by decide
theorem kb_34 : (Int8.ofInt (sg8 34)).toInt32 = (nI 34) := by decide
theorem kb_35 : (Int8.ofInt (sg8 35)).toInt32 = (nI 35) := by decide
theorem kb_36 : (Int8.ofInt (sg8 36)).toInt32 = (nI 36) := by decide
theorem kb_37 : (Int8.ofInt (sg8 37)).toInt32 = (nI 37) := by decide
theorem kb_38 : (Int8.ofInt (sg8 38)).toInt32 = (nI 38) := by decide
theorem kb_39 : (Int8.ofInt (sg8 39)).toInt32 = (nI 39) := by decide
theorem kb_40 : (Int8.ofInt (sg8 40)).toInt32 = (nI 40) := by decide
theorem kb_41 : (Int8.ofInt (sg8 41)).toInt32 = (nI 41) := by decide
theorem kb_42 : (Int8.ofInt (sg8 42)).toInt32 = (nI 42) := by decide
theorem kb_43 : (Int8.ofInt (sg8 43)).toInt32 = (nI 43) := by decide
theorem kb_45 : (Int8.ofInt (sg8 45)).toInt32 = (nI 45) := by decide
theorem kb_46 : (Int8.ofInt (sg8 46)).toInt32 = (nI 46) := by decide
theorem kb_47 : (Int8.ofInt (sg8 47)).toInt32 = (nI 47) := by decide
theorem kb_48 : (Int8.ofInt (sg8 48)).toInt32 = (nI 48) := by decide
theorem kb_49 : (Int8.ofInt (sg8 49)).toInt32 = (nI 49) := by decide
theorem kb_50 : (Int8.ofInt (sg8 50)).toInt32 = (nI 50) := by decide
theorem kb_51 : (Int8.ofInt (sg8 51)).toInt32 = (nI 51) := by decide
theorem kb_52 : (Int8.ofInt (sg8 52)).toInt32 = (nI 52) := by decide
theorem kb_53 : (Int8.ofInt (sg8 53)).toInt32 = (nI 53) := by decide
theorem kb_54 : (Int8.ofInt (sg8 54)).toInt32 = (nI 54) := by decide
theorem kb_55 : (Int8.ofInt (sg8 55)).toInt32 = (nI 55) := by decide
theorem kb_56 : (Int8.ofInt (sg8 56)).toInt32 = (nI 56) := by decide
theorem kb_57 : (Int8.ofInt (sg8 57)).toInt32 = (nI 57) := by decide
theorem kb_58 : (Int8.ofInt (sg8 58)).toInt32 = (nI 58) := by decide
theorem kb_59 : (Int8.ofInt (sg8 59)).toInt32 = (nI 59) := by decide
theorem kb_60 : (Int8.ofInt (sg8 60)).toInt32 = (nI 60) := by decide
theorem kb_63 : (Int8.ofInt (sg8 63)).toInt32 = (nI 63) := by decide
theorem kb_64 : (Int8.ofInt (sg8 64)).toInt32 = (nI 64) := by decide
theorem kb_65 : (Int8.ofInt (sg8 65)).toInt32 = (nI 65) := by decide
theorem kb_76 : (Int8.ofInt (sg8 76)).toInt32 = (nI 76) := by decide
theorem kb_77 : (Int8.ofInt (sg8 77)).toInt32 = (nI 77) := by decide
theorem kb_82 : (Int8.ofInt (sg8 82)).toInt32 = (nI 82) := by decide
theorem kb_96 : (Int8.ofInt (sg8 96)).toInt32 = (nI 96) := by decide
theorem kb_127 : (Int8.ofInt (sg8 127)).toInt32 = (nI 127) := by decide
theorem kb_247 : (Int8.ofInt (sg8 247)).toInt32 = (-9 : Int32) := by decide
theorem kb_253 : (Int8.ofInt (sg8 253)).toInt32 = (-3 : Int32) := by decide
theorem kb_254 : (Int8.ofInt (sg8 254)).toInt32 = (-2 : Int32) := by decide
theorem ks_0_128 : (Int16.ofInt (sg16 (0 * 256 + 128))).toInt32 = (nI 128) := by decide
theorem ks_0_200 : (Int16.ofInt (sg16 (0 * 256 + 200))).toInt32 = (nI 200) := by decide
theorem ks_0_255 : (Int16.ofInt (sg16 (0 * 256 + 255))).toInt32 = (nI 255) := by decide
theorem ks_1_0 : (Int16.ofInt (sg16 (1 * 256 + 0))).toInt32 = (nI 256) := by decide
theorem ks_2_0 : (Int16.ofInt (sg16 (2 * 256 + 0))).toInt32 = (nI 512) := by decide
theorem ks_2_128 : (Int16.ofInt (sg16 (2 * 256 + 128))).toInt32 = (nI 640) := by decide
theorem ks_4_0 : (Int16.ofInt (sg16 (4 * 256 + 0))).toInt32 = (nI 1024) := by decide
theorem ks_4_1 : (Int16.ofInt (sg16 (4 * 256 + 1))).toInt32 = (nI 1025) := by decide
theorem ks_4_176 : (Int16.ofInt (sg16 (4 * 256 + 176))).toInt32 = (nI 1200) := by decide
theorem ks_5_0 : (Int16.ofInt (sg16 (5 * 256 + 0))).toInt32 = (nI 1280) := by decide
theorem ks_8_0 : (Int16.ofInt (sg16 (8 * 256 + 0))).toInt32 = (nI 2048) := by decide
theorem ks_8_1 : (Int16.ofInt (sg16 (8 * 256 + 1))).toInt32 = (nI 2049) := by decide
theorem ks_8_152 : (Int16.ofInt (sg16 (8 * 256 + 152))).toInt32 = (nI 2200) := by decide
theorem ks_16_0 : (Int16.ofInt (sg16 (16 * 256 + 0))).toInt32 = (nI 4096) := by decide
theorem ks_32_0 : (Int16.ofInt (sg16 (32 * 256 + 0))).toInt32 = (nI 8192) := by decide
theorem ks_64_0 : (Int16.ofInt (sg16 (64 * 256 + 0))).toInt32 = (nI 16384) := by decide
theorem ks_78_32 : (Int16.ofInt (sg16 (78 * 256 + 32))).toInt32 = (nI 20000) := by decide
theorem ks_96_0 : (Int16.ofInt (sg16 (96 * 256 + 0))).toInt32 = (nI 24576) := by decide
theorem kn_1 : Int32.ofInt (sg8 1) = (nI 1) := by decide
theorem kn_64 : Int32.ofInt (sg8 64) = (nI 64) := by decide
theorem kn_240 : Int32.ofInt (sg8 240) = (-16 : Int32) := by decide
theorem kn_248 : Int32.ofInt (sg8 248) = (-8 : Int32) := by decide
theorem kn_252 : Int32.ofInt (sg8 252) = (-4 : Int32) := by decide
theorem kn_254 : Int32.ofInt (sg8 254) = (-2 : Int32) := by decide
theorem kn_255 : Int32.ofInt (sg8 255) = (-1 : Int32) := by decide
