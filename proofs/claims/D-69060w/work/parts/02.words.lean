section
-- ResourceLedgerLaw
set_option maxRecDepth 100000
def RX0 : String := "ResourceLedgerLaw"
abbrev cX0_cell : ByteArray := method_2_code
def yX0_cell : MethodName := ⟨RX0, "cell", "([II)I"⟩
theorem q264 : (Jvm.Cond.initialized "ResourceLedgerLaw") ∈ lw_all := lw_g (lw_at lw_m1 0 rfl) rfl
theorem q306 : (Jvm.Cond.classLink "ResourceLedgerLaw" (7 : Nat) "ResourceLedger") ∈ lw_all := lw_g (lw_at lw_m1 42 rfl) rfl
theorem q308 : (Jvm.Cond.methodLink "ResourceLedgerLaw" (15 : Nat) ({ cls := "ResourceLedger", name := "<init>", desc := "(I)V" } : Jvm.MethodName)) ∈ lw_all := lw_g (lw_at lw_m1 44 rfl) rfl
theorem q1409 : (Jvm.Cond.methodLink "ResourceLedgerLaw" (62 : Nat) ({ cls := "ResourceLedger", name := "execute", desc := "()I" } : Jvm.MethodName)) ∈ lw_all := lw_g (lw_at lw_m5 185 rfl) rfl
theorem q2117 : (Jvm.Cond.methodLink "ResourceLedgerLaw" (23 : Nat) ({ cls := "ResourceLedger", name := "type", desc := "(JI)I" } : Jvm.MethodName)) ∈ lw_all := lw_g (lw_at lw_m8 173 rfl) rfl
theorem q2121 : (Jvm.Cond.methodLink "ResourceLedgerLaw" (28 : Nat) ({ cls := "ResourceLedger", name := "mint", desc := "(JJ)Z" } : Jvm.MethodName)) ∈ lw_all := lw_g (lw_at lw_m8 177 rfl) rfl
theorem q2126 : (Jvm.Cond.methodLink "ResourceLedgerLaw" (33 : Nat) ({ cls := "ResourceLedger", name := "begin", desc := "()I" } : Jvm.MethodName)) ∈ lw_all := lw_g (lw_at lw_m8 182 rfl) rfl
theorem q2130 : (Jvm.Cond.methodLink "ResourceLedgerLaw" (38 : Nat) ({ cls := "ResourceLedger", name := "publish", desc := "(JJI)I" } : Jvm.MethodName)) ∈ lw_all := lw_g (lw_at lw_m8 186 rfl) rfl
theorem q2141 : (Jvm.Cond.methodLink "ResourceLedgerLaw" (43 : Nat) ({ cls := "ResourceLedger", name := "call", desc := "(JJIII)I" } : Jvm.MethodName)) ∈ lw_all := lw_g (lw_at lw_m8 197 rfl) rfl
theorem q2146 : (Jvm.Cond.methodLink "ResourceLedgerLaw" (48 : Nat) ({ cls := "ResourceLedger", name := "argument", desc := "(IJJ)I" } : Jvm.MethodName)) ∈ lw_all := lw_g (lw_at lw_m8 202 rfl) rfl
theorem q2150 : (Jvm.Cond.methodLink "ResourceLedgerLaw" (53 : Nat) ({ cls := "ResourceLedger", name := "weave", desc := "(J)I" } : Jvm.MethodName)) ∈ lw_all := lw_g (lw_at lw_m8 206 rfl) rfl
theorem q2155 : (Jvm.Cond.methodLink "ResourceLedgerLaw" (58 : Nat) ({ cls := "ResourceLedger", name := "unweave", desc := "()I" } : Jvm.MethodName)) ∈ lw_all := lw_g (lw_at lw_m8 211 rfl) rfl
theorem q2159 : (Jvm.Cond.methodLink "ResourceLedgerLaw" (66 : Nat) ({ cls := "ResourceLedger", name := "told", desc := "(II)I" } : Jvm.MethodName)) ∈ lw_all := lw_g (lw_at lw_m8 215 rfl) rfl
theorem q2167 : (Jvm.Cond.methodLink "ResourceLedgerLaw" (71 : Nat) ({ cls := "ResourceLedger", name := "code", desc := "(I)J" } : Jvm.MethodName)) ∈ lw_all := lw_g (lw_at lw_m8 223 rfl) rfl
theorem q2171 : (Jvm.Cond.methodLink "ResourceLedgerLaw" (76 : Nat) ({ cls := "ResourceLedger", name := "result", desc := "(III)J" } : Jvm.MethodName)) ∈ lw_all := lw_g (lw_at lw_m8 227 rfl) rfl
theorem q2175 : (Jvm.Cond.methodLink "ResourceLedgerLaw" (81 : Nat) ({ cls := "ResourceLedger", name := "account", desc := "(JI)J" } : Jvm.MethodName)) ∈ lw_all := lw_g (lw_at lw_m8 231 rfl) rfl
theorem q2179 : (Jvm.Cond.methodLink "ResourceLedgerLaw" (86 : Nat) ({ cls := "ResourceLedger", name := "coins", desc := "(I)J" } : Jvm.MethodName)) ∈ lw_all := lw_g (lw_at lw_m8 235 rfl) rfl
theorem q2187 : (Jvm.Cond.methodLink "ResourceLedgerLaw" (90 : Nat) ({ cls := "ResourceLedger", name := "places", desc := "(I)I" } : Jvm.MethodName)) ∈ lw_all := lw_g (lw_at lw_m9 3 rfl) rfl
theorem q2191 : (Jvm.Cond.methodLink "ResourceLedgerLaw" (95 : Nat) ({ cls := "ResourceLedger", name := "resource", desc := "(JII)I" } : Jvm.MethodName)) ∈ lw_all := lw_g (lw_at lw_m9 7 rfl) rfl
theorem q2203 : (Jvm.Cond.methodLink "ResourceLedgerLaw" (100 : Nat) ({ cls := "ResourceLedger", name := "byteOf", desc := "(I)I" } : Jvm.MethodName)) ∈ lw_all := lw_g (lw_at lw_m9 19 rfl) rfl
theorem q2207 : (Jvm.Cond.methodLink "ResourceLedgerLaw" (104 : Nat) ({ cls := "ResourceLedger", name := "root", desc := "(I)J" } : Jvm.MethodName)) ∈ lw_all := lw_g (lw_at lw_m9 23 rfl) rfl
theorem q2328 : (Jvm.Cond.methodLink "ResourceLedgerLaw" (108 : Nat) ({ cls := "ResourceLedger", name := "slips", desc := "()I" } : Jvm.MethodName)) ∈ lw_all := lw_g (lw_at lw_m9 144 rfl) rfl
theorem q2332 : (Jvm.Cond.methodLink "ResourceLedgerLaw" (9 : Nat) ({ cls := "ResourceLedgerLaw", name := "cell", desc := "([II)I" } : Jvm.MethodName)) ∈ lw_all := lw_g (lw_at lw_m9 148 rfl) rfl
theorem q2333 : (Jvm.Cond.static ({ cls := "ResourceLedgerLaw", name := "cell", desc := "([II)I" } : Jvm.MethodName)) ∈ lw_all := lw_g (lw_at lw_m9 149 rfl) rfl
theorem q2334 : (Jvm.Cond.code ({ cls := "ResourceLedgerLaw", name := "cell", desc := "([II)I" } : Jvm.MethodName) method_2_code (2 : Nat) (Option.some Jvm.ClassFile.FieldType.int)) ∈ lw_all := lw_g (lw_at lw_m9 150 rfl) rfl
theorem q2335 : (Jvm.Cond.classLink "ResourceLedgerLaw" (18 : Nat) "ResourceLedgerModel") ∈ lw_all := lw_g (lw_at lw_m9 151 rfl) rfl
theorem q2337 : (Jvm.Cond.methodLink "ResourceLedgerLaw" (20 : Nat) ({ cls := "ResourceLedgerModel", name := "<init>", desc := "(I)V" } : Jvm.MethodName)) ∈ lw_all := lw_g (lw_at lw_m9 153 rfl) rfl
theorem q2834 : (Jvm.Cond.methodLink "ResourceLedgerLaw" (27 : Nat) ({ cls := "ResourceLedgerModel", name := "type", desc := "(JI)I" } : Jvm.MethodName)) ∈ lw_all := lw_g (lw_at lw_m11 170 rfl) rfl
theorem q2838 : (Jvm.Cond.methodLink "ResourceLedgerLaw" (32 : Nat) ({ cls := "ResourceLedgerModel", name := "mint", desc := "(JJ)Z" } : Jvm.MethodName)) ∈ lw_all := lw_g (lw_at lw_m11 174 rfl) rfl
theorem q2855 : (Jvm.Cond.methodLink "ResourceLedgerLaw" (37 : Nat) ({ cls := "ResourceLedgerModel", name := "begin", desc := "()I" } : Jvm.MethodName)) ∈ lw_all := lw_g (lw_at lw_m11 191 rfl) rfl
theorem q2859 : (Jvm.Cond.methodLink "ResourceLedgerLaw" (42 : Nat) ({ cls := "ResourceLedgerModel", name := "publish", desc := "(JJI)I" } : Jvm.MethodName)) ∈ lw_all := lw_g (lw_at lw_m11 195 rfl) rfl
theorem q2870 : (Jvm.Cond.methodLink "ResourceLedgerLaw" (47 : Nat) ({ cls := "ResourceLedgerModel", name := "call", desc := "(JJIII)I" } : Jvm.MethodName)) ∈ lw_all := lw_g (lw_at lw_m11 206 rfl) rfl
theorem q2875 : (Jvm.Cond.methodLink "ResourceLedgerLaw" (52 : Nat) ({ cls := "ResourceLedgerModel", name := "argument", desc := "(IJJ)I" } : Jvm.MethodName)) ∈ lw_all := lw_g (lw_at lw_m11 211 rfl) rfl
theorem q2880 : (Jvm.Cond.methodLink "ResourceLedgerLaw" (57 : Nat) ({ cls := "ResourceLedgerModel", name := "weave", desc := "(J)I" } : Jvm.MethodName)) ∈ lw_all := lw_g (lw_at lw_m11 216 rfl) rfl
theorem q2884 : (Jvm.Cond.methodLink "ResourceLedgerLaw" (61 : Nat) ({ cls := "ResourceLedgerModel", name := "unweave", desc := "()I" } : Jvm.MethodName)) ∈ lw_all := lw_g (lw_at lw_m11 220 rfl) rfl
theorem q2888 : (Jvm.Cond.methodLink "ResourceLedgerLaw" (65 : Nat) ({ cls := "ResourceLedgerModel", name := "execute", desc := "()I" } : Jvm.MethodName)) ∈ lw_all := lw_g (lw_at lw_m11 224 rfl) rfl
theorem q3616 : (Jvm.Cond.methodLink "ResourceLedgerLaw" (70 : Nat) ({ cls := "ResourceLedgerModel", name := "told", desc := "(II)I" } : Jvm.MethodName)) ∈ lw_all := lw_g (lw_at lw_m14 232 rfl) rfl
theorem q3624 : (Jvm.Cond.methodLink "ResourceLedgerLaw" (75 : Nat) ({ cls := "ResourceLedgerModel", name := "code", desc := "(I)J" } : Jvm.MethodName)) ∈ lw_all := lw_g (lw_at lw_m15 0 rfl) rfl
theorem q3628 : (Jvm.Cond.methodLink "ResourceLedgerLaw" (80 : Nat) ({ cls := "ResourceLedgerModel", name := "result", desc := "(III)J" } : Jvm.MethodName)) ∈ lw_all := lw_g (lw_at lw_m15 4 rfl) rfl
theorem q3632 : (Jvm.Cond.methodLink "ResourceLedgerLaw" (85 : Nat) ({ cls := "ResourceLedgerModel", name := "account", desc := "(JI)J" } : Jvm.MethodName)) ∈ lw_all := lw_g (lw_at lw_m15 8 rfl) rfl
theorem q3636 : (Jvm.Cond.methodLink "ResourceLedgerLaw" (89 : Nat) ({ cls := "ResourceLedgerModel", name := "coins", desc := "(I)J" } : Jvm.MethodName)) ∈ lw_all := lw_g (lw_at lw_m15 12 rfl) rfl
theorem q3644 : (Jvm.Cond.methodLink "ResourceLedgerLaw" (94 : Nat) ({ cls := "ResourceLedgerModel", name := "places", desc := "(I)I" } : Jvm.MethodName)) ∈ lw_all := lw_g (lw_at lw_m15 20 rfl) rfl
theorem q3648 : (Jvm.Cond.methodLink "ResourceLedgerLaw" (99 : Nat) ({ cls := "ResourceLedgerModel", name := "resource", desc := "(JII)I" } : Jvm.MethodName)) ∈ lw_all := lw_g (lw_at lw_m15 24 rfl) rfl
theorem q3661 : (Jvm.Cond.methodLink "ResourceLedgerLaw" (103 : Nat) ({ cls := "ResourceLedgerModel", name := "byteOf", desc := "(I)I" } : Jvm.MethodName)) ∈ lw_all := lw_g (lw_at lw_m15 37 rfl) rfl
theorem q3665 : (Jvm.Cond.methodLink "ResourceLedgerLaw" (107 : Nat) ({ cls := "ResourceLedgerModel", name := "root", desc := "(I)J" } : Jvm.MethodName)) ∈ lw_all := lw_g (lw_at lw_m15 41 rfl) rfl
theorem q3739 : (Jvm.Cond.methodLink "ResourceLedgerLaw" (111 : Nat) ({ cls := "ResourceLedgerModel", name := "slips", desc := "()I" } : Jvm.MethodName)) ∈ lw_all := lw_g (lw_at lw_m15 115 rfl) rfl
theorem q3743 : (Jvm.Cond.constantLong "ResourceLedgerLaw" (21 : Nat) (4294967295 : Int64)) ∈ lw_all := lw_g (lw_at lw_m15 119 rfl) rfl
end
section
-- ResourceLedger
set_option maxRecDepth 100000
def RX1 : String := "ResourceLedger"
def TX1 : u_T := fun k => match k with
  | 0 => ("ResourceLedger", "coin", "LResourceLedger$Module;", true)
  | 1 => ("ResourceLedger", "state", "LResourceLedger$Entries;", true)
  | 2 => ("ResourceLedger", "pool", "LResourceLedger$Pool;", true)
  | 3 => ("ResourceLedger", "block", "[LResourceLedger$Transaction;", true)
  | 4 => ("ResourceLedger", "count", "I", false)
  | 5 => ("ResourceLedger", "first", "I", false)
  | 6 => ("ResourceLedger", "last", "I", false)
  | 7 => ("ResourceLedger", "workers", "[LResourceLedger$Worker;", true)
  | 8 => ("ResourceLedger", "weave", "[B", true)
  | 9 => ("ResourceLedger", "woven", "I", false)
  | 10 => ("ResourceLedger", "toRun", "I", false)
  | 11 => ("ResourceLedger", "toLook", "I", false)
  | 12 => ("ResourceLedger", "busy", "I", false)
  | 13 => ("ResourceLedger", "reader", "LResourceLedger$Reader;", true)
  | 14 => ("ResourceLedger", "checker", "LResourceLedger$Checker;", true)
  | 15 => ("ResourceLedger", "tape", "[B", true)
  | 16 => ("ResourceLedger", "tapeSize", "I", false)
  | 17 => ("ResourceLedger", "minted", "J", false)
  | 18 => ("ResourceLedger", "burned", "J", false)
  | 19 => ("ResourceLedger", "tree", "LResourceLedger$HashTree;", true)
  | 20 => ("ResourceLedger", "rooted", "Z", false)
  | 21 => ("ResourceLedger", "shown", "[B", true)
  | 22 => ("ResourceLedger", "shownSize", "I", false)
  | 23 => ("ResourceLedger", "stopped", "Ljava/lang/IllegalStateException;", true)
  | 24 => ("ResourceLedger", "stopOutcome", "I", false)
  | 25 => ("ResourceLedger", "stopCode", "J", false)
  | 26 => ("ResourceLedger", "w", "LResourceLedger$Worker;", false)
  | 27 => ("ResourceLedger", "wide", "LResourceLedger$Wide;", true)
  | 28 => ("ResourceLedger", "f", "LResourceLedger$Frame;", false)
  | 29 => ("ResourceLedger", "used", "I", false)
  | 30 => ("ResourceLedger", "turn", "I", false)
  | 31 => ("ResourceLedger", "spares", "[LResourceLedger$Module;", true)
  | 32 => ("ResourceLedger", "spared", "I", false)
  | _ => ("ResourceLedger", "order", "[I", true)
def tyX1 : Nat → FieldType := fun k => match k with
  | 0 => .object "ResourceLedger$Module"
  | 1 => .object "ResourceLedger$Entries"
  | 2 => .object "ResourceLedger$Pool"
  | 3 => .array (.object "ResourceLedger$Transaction")
  | 4 => .int
  | 5 => .int
  | 6 => .int
  | 7 => .array (.object "ResourceLedger$Worker")
  | 8 => .array .byte
  | 9 => .int
  | 10 => .int
  | 11 => .int
  | 12 => .int
  | 13 => .object "ResourceLedger$Reader"
  | 14 => .object "ResourceLedger$Checker"
  | 15 => .array .byte
  | 16 => .int
  | 17 => .long
  | 18 => .long
  | 19 => .object "ResourceLedger$HashTree"
  | 20 => .boolean
  | 21 => .array .byte
  | 22 => .int
  | 23 => .object "java/lang/IllegalStateException"
  | 24 => .int
  | 25 => .long
  | 26 => .object "ResourceLedger$Worker"
  | 27 => .object "ResourceLedger$Wide"
  | 28 => .object "ResourceLedger$Frame"
  | 29 => .int
  | 30 => .int
  | 31 => .array (.object "ResourceLedger$Module")
  | 32 => .int
  | _ => .array .int
abbrev wsX10 : List Cond := u_ws RX1 TX1 34
set_option maxRecDepth 100000 in
theorem nmX1 : ∀ a, a < 34 → ∀ b, b < 34 → a ≠ b → (TX1 a).2.1 ≠ (TX1 b).2.1 := by decide +kernel
set_option maxRecDepth 100000 in
theorem tyX1_ok : ∀ k, k < 34 → parseFieldDescriptor (TX1 k).2.2.1 = some (tyX1 k) := by decide +kernel
abbrev cX1_init : ByteArray := prog_1_method_2_code
def yX1_init : MethodName := ⟨RX1, "<init>", "(I)V"⟩
abbrev cX1_formOf : ByteArray := prog_1_method_1_code
def yX1_formOf : MethodName := ⟨RX1, "formOf", "(I)LResourceLedger$Form;"⟩
abbrev cX1_execute : ByteArray := prog_1_method_58_code
def yX1_execute : MethodName := ⟨RX1, "execute", "()I"⟩
abbrev cX1_together : ByteArray := prog_1_method_60_code
def yX1_together : MethodName := ⟨RX1, "together", "()V"⟩
abbrev cX1_next : ByteArray := prog_1_method_59_code
def yX1_next : MethodName := ⟨RX1, "next", "()I"⟩
abbrev cX1_step : ByteArray := prog_1_method_47_code
def yX1_step : MethodName := ⟨RX1, "step", "(LResourceLedger$Worker;)V"⟩
abbrev cX1_take : ByteArray := prog_1_method_48_code
def yX1_take : MethodName := ⟨RX1, "take", "()V"⟩
abbrev cX1_go : ByteArray := prog_1_method_50_code
def yX1_go : MethodName := ⟨RX1, "go", "()V"⟩
abbrev cX1_instruction : ByteArray := prog_1_method_45_code
def yX1_instruction : MethodName := ⟨RX1, "instruction", "()V"⟩
abbrev cX1_pay : ByteArray := prog_1_method_5_code
def yX1_pay : MethodName := ⟨RX1, "pay", "(I)V"⟩
abbrev cX1_stop : ByteArray := prog_1_method_3_code
def yX1_stop : MethodName := ⟨RX1, "stop", "(IJ)V"⟩
abbrev cX1_dropTop : ByteArray := prog_1_method_26_code
def yX1_dropTop : MethodName := ⟨RX1, "dropTop", "()V"⟩
abbrev cX1_pop : ByteArray := prog_1_method_21_code
def yX1_pop : MethodName := ⟨RX1, "pop", "()LResourceLedger$Value;"⟩
abbrev cX1_end : ByteArray := prog_1_method_40_code
def yX1_end : MethodName := ⟨RX1, "end", "()V"⟩
abbrev cX1_push : ByteArray := prog_1_method_23_code
def yX1_push : MethodName := ⟨RX1, "push", "(LResourceLedger$Value;)V"⟩
abbrev cX1_settlePlaces : ByteArray := prog_1_method_41_code
def yX1_settlePlaces : MethodName := ⟨RX1, "settlePlaces", "()V"⟩
abbrev cX1_need : ByteArray := prog_1_method_4_code
def yX1_need : MethodName := ⟨RX1, "need", "(ZI)V"⟩
abbrev cX1_ask : ByteArray := prog_1_method_7_code
def yX1_ask : MethodName := ⟨RX1, "ask", "(IJIZ)LResourceLedger$Entry;"⟩
abbrev cX1_before : ByteArray := prog_1_method_6_code
def yX1_before : MethodName := ⟨RX1, "before", "(IIJI)I"⟩
abbrev cX1_modulesThere : ByteArray := prog_1_method_8_code
def yX1_modulesThere : MethodName := ⟨RX1, "modulesThere", "()I"⟩
abbrev cX1_branch : ByteArray := prog_1_method_46_code
def yX1_branch : MethodName := ⟨RX1, "branch", "(II)V"⟩
abbrev cX1_top : ByteArray := prog_1_method_22_code
def yX1_top : MethodName := ⟨RX1, "top", "(I)LResourceLedger$Value;"⟩
abbrev cX1_constant : ByteArray := prog_1_method_31_code
def yX1_constant : MethodName := ⟨RX1, "constant", "(IJJ)V"⟩
abbrev cX1_pushNumber : ByteArray := prog_1_method_24_code
def yX1_pushNumber : MethodName := ⟨RX1, "pushNumber", "(JJJ)V"⟩
abbrev cX1_pushTruth : ByteArray := prog_1_method_25_code
def yX1_pushTruth : MethodName := ⟨RX1, "pushTruth", "(Z)V"⟩
abbrev cX1_useLocal : ByteArray := prog_1_method_32_code
def yX1_useLocal : MethodName := ⟨RX1, "useLocal", "(II)V"⟩
abbrev cX1_reference : ByteArray := prog_1_method_33_code
def yX1_reference : MethodName := ⟨RX1, "reference", "(II)V"⟩
abbrev cX1_pack : ByteArray := prog_1_method_34_code
def yX1_pack : MethodName := ⟨RX1, "pack", "(I)V"⟩
abbrev cX1_gather : ByteArray := prog_1_method_35_code
def yX1_gather : MethodName := ⟨RX1, "gather", "(LResourceLedger$Value;I)V"⟩
abbrev cX1_unpack : ByteArray := prog_1_method_36_code
def yX1_unpack : MethodName := ⟨RX1, "unpack", "()V"⟩
abbrev cX1_call : ByteArray := prog_1_method_37_code
def yX1_call : MethodName := ⟨RX1, "call", "(I)V"⟩
abbrev cX1_module : ByteArray := prog_1_method_9_code
def yX1_module : MethodName := ⟨RX1, "module", "(IZ)LResourceLedger$Module;"⟩
abbrev cX1_ofCoin : ByteArray := prog_1_method_38_code
def yX1_ofCoin : MethodName := ⟨RX1, "ofCoin", "(I)V"⟩
abbrev cX1_coinOf : ByteArray := prog_1_method_39_code
def yX1_coinOf : MethodName := ⟨RX1, "coinOf", "(J)V"⟩
abbrev cX1_enter : ByteArray := prog_1_method_11_code
def yX1_enter : MethodName := ⟨RX1, "enter", "(LResourceLedger$Module;LResourceLedger$Function;)LResourceLedger$Frame;"⟩
abbrev cX1_number : ByteArray := prog_1_method_30_code
def yX1_number : MethodName := ⟨RX1, "number", "(I)V"⟩
abbrev cX1_reckon : ByteArray := prog_1_method_27_code
def yX1_reckon : MethodName := ⟨RX1, "reckon", "(I)V"⟩
abbrev cX1_compare : ByteArray := prog_1_method_28_code
def yX1_compare : MethodName := ⟨RX1, "compare", "(I)V"⟩
abbrev cX1_cast : ByteArray := prog_1_method_29_code
def yX1_cast : MethodName := ⟨RX1, "cast", "(J)V"⟩
abbrev cX1_resource : ByteArray := prog_1_method_42_code
def yX1_resource : MethodName := ⟨RX1, "resource", "(II)V"⟩
abbrev cX1_vector : ByteArray := prog_1_method_43_code
def yX1_vector : MethodName := ⟨RX1, "vector", "(II)V"⟩
abbrev cX1_bytes : ByteArray := prog_1_method_44_code
def yX1_bytes : MethodName := ⟨RX1, "bytes", "()V"⟩
abbrev cX1_beginTransaction : ByteArray := prog_1_method_10_code
def yX1_beginTransaction : MethodName := ⟨RX1, "beginTransaction", "()V"⟩
abbrev cX1_publishing : ByteArray := prog_1_method_12_code
def yX1_publishing : MethodName := ⟨RX1, "publishing", "(LResourceLedger$Transaction;)V"⟩
abbrev cX1_faulty : ByteArray := prog_1_method_13_code
def yX1_faulty : MethodName := ⟨RX1, "faulty", "(II)V"⟩
abbrev cX1_link : ByteArray := prog_1_method_14_code
def yX1_link : MethodName := ⟨RX1, "link", "(LResourceLedger$Module;)V"⟩
abbrev cX1_isLike : ByteArray := prog_1_method_15_code
def yX1_isLike : MethodName := ⟨RX1, "isLike", "(LResourceLedger$Module;LResourceLedger$Function;LResourceLedger$Module;LResourceLedger$Function;)Z"⟩
abbrev cX1_isSameType : ByteArray := prog_1_method_16_code
def yX1_isSameType : MethodName := ⟨RX1, "isSameType", "(LResourceLedger$Tables;JLResourceLedger$Tables;J)Z"⟩
abbrev cX1_moduleOf : ByteArray := prog_1_method_17_code
def yX1_moduleOf : MethodName := ⟨RX1, "moduleOf", "(LResourceLedger$Tables;I)I"⟩
abbrev cX1_numberOf : ByteArray := prog_1_method_18_code
def yX1_numberOf : MethodName := ⟨RX1, "numberOf", "(LResourceLedger$Tables;I)I"⟩
abbrev cX1_lookAt : ByteArray := prog_1_method_19_code
def yX1_lookAt : MethodName := ⟨RX1, "lookAt", "(LResourceLedger$Module;)V"⟩
abbrev cX1_depthOf : ByteArray := prog_1_method_20_code
def yX1_depthOf : MethodName := ⟨RX1, "depthOf", "(LResourceLedger$Module;LResourceLedger$Structure;)I"⟩
abbrev cX1_hold : ByteArray := prog_1_method_51_code
def yX1_hold : MethodName := ⟨RX1, "hold", "(I)V"⟩
abbrev cX1_rest : ByteArray := prog_1_method_49_code
def yX1_rest : MethodName := ⟨RX1, "rest", "()V"⟩
abbrev cX1_finish : ByteArray := prog_1_method_52_code
def yX1_finish : MethodName := ⟨RX1, "finish", "(IJ)V"⟩
abbrev cX1_forget : ByteArray := prog_1_method_53_code
def yX1_forget : MethodName := ⟨RX1, "forget", "(LResourceLedger$Transaction;)V"⟩
abbrev cX1_leave : ByteArray := prog_1_method_54_code
def yX1_leave : MethodName := ⟨RX1, "leave", "(LResourceLedger$Transaction;Z)V"⟩
abbrev cX1_release : ByteArray := prog_1_method_55_code
def yX1_release : MethodName := ⟨RX1, "release", "(I)V"⟩
abbrev cX1_lookOn : ByteArray := prog_1_method_56_code
def yX1_lookOn : MethodName := ⟨RX1, "lookOn", "()V"⟩
abbrev cX1_again : ByteArray := prog_1_method_57_code
def yX1_again : MethodName := ⟨RX1, "again", "(I)V"⟩
abbrev cX1_takeOver : ByteArray := prog_1_method_61_code
def yX1_takeOver : MethodName := ⟨RX1, "takeOver", "(LResourceLedger$Transaction;)V"⟩
abbrev cX1_remove : ByteArray := prog_1_method_64_code
def yX1_remove : MethodName := ⟨RX1, "remove", "(LResourceLedger$Entry;)V"⟩
abbrev cX1_fresh : ByteArray := prog_1_method_63_code
def yX1_fresh : MethodName := ⟨RX1, "fresh", "(IJI)LResourceLedger$Entry;"⟩
abbrev cX1_spare : ByteArray := prog_1_method_62_code
def yX1_spare : MethodName := ⟨RX1, "spare", "()LResourceLedger$Module;"⟩
abbrev cX1_type : ByteArray := prog_1_method_65_code
def yX1_type : MethodName := ⟨RX1, "type", "(JI)I"⟩
abbrev cX1_mint : ByteArray := prog_1_method_66_code
def yX1_mint : MethodName := ⟨RX1, "mint", "(JJ)Z"⟩
abbrev cX1_begin : ByteArray := prog_1_method_67_code
def yX1_begin : MethodName := ⟨RX1, "begin", "()I"⟩
abbrev cX1_publish : ByteArray := prog_1_method_70_code
def yX1_publish : MethodName := ⟨RX1, "publish", "(JJI)I"⟩
abbrev cX1_isLimit : ByteArray := prog_1_method_68_code
def yX1_isLimit : MethodName := ⟨RX1, "isLimit", "(I)Z"⟩
abbrev cX1_transaction : ByteArray := prog_1_method_69_code
def yX1_transaction : MethodName := ⟨RX1, "transaction", "(JJIZ)LResourceLedger$Transaction;"⟩
abbrev cX1_call_2 : ByteArray := prog_1_method_71_code
def yX1_call_2 : MethodName := ⟨RX1, "call", "(JJIII)I"⟩
abbrev cX1_argument : ByteArray := prog_1_method_72_code
def yX1_argument : MethodName := ⟨RX1, "argument", "(IJJ)I"⟩
abbrev cX1_weave : ByteArray := prog_1_method_73_code
def yX1_weave : MethodName := ⟨RX1, "weave", "(J)I"⟩
abbrev cX1_unweave : ByteArray := prog_1_method_74_code
def yX1_unweave : MethodName := ⟨RX1, "unweave", "()I"⟩
abbrev cX1_told : ByteArray := prog_1_method_76_code
def yX1_told : MethodName := ⟨RX1, "told", "(II)I"⟩
abbrev cX1_isTransaction : ByteArray := prog_1_method_75_code
def yX1_isTransaction : MethodName := ⟨RX1, "isTransaction", "(I)Z"⟩
abbrev cX1_code : ByteArray := prog_1_method_77_code
def yX1_code : MethodName := ⟨RX1, "code", "(I)J"⟩
abbrev cX1_result : ByteArray := prog_1_method_78_code
def yX1_result : MethodName := ⟨RX1, "result", "(III)J"⟩
abbrev cX1_account : ByteArray := prog_1_method_79_code
def yX1_account : MethodName := ⟨RX1, "account", "(JI)J"⟩
abbrev cX1_coins : ByteArray := prog_1_method_80_code
def yX1_coins : MethodName := ⟨RX1, "coins", "(I)J"⟩
abbrev cX1_places : ByteArray := prog_1_method_81_code
def yX1_places : MethodName := ⟨RX1, "places", "(I)I"⟩
abbrev cX1_resource_2 : ByteArray := prog_1_method_84_code
def yX1_resource_2 : MethodName := ⟨RX1, "resource", "(JII)I"⟩
abbrev cX1_write : ByteArray := prog_1_method_83_code
def yX1_write : MethodName := ⟨RX1, "write", "(LResourceLedger;LResourceLedger$Value;)V"⟩
abbrev cX1_show : ByteArray := prog_1_method_82_code
def yX1_show : MethodName := ⟨RX1, "show", "(JI)V"⟩
abbrev cX1_byteOf : ByteArray := prog_1_method_85_code
def yX1_byteOf : MethodName := ⟨RX1, "byteOf", "(I)I"⟩
abbrev cX1_root : ByteArray := prog_1_method_90_code
def yX1_root : MethodName := ⟨RX1, "root", "(I)J"⟩
abbrev cX1_plantAll : ByteArray := prog_1_method_89_code
def yX1_plantAll : MethodName := ⟨RX1, "plantAll", "()V"⟩
abbrev cX1_isLess : ByteArray := prog_1_method_88_code
def yX1_isLess : MethodName := ⟨RX1, "isLess", "(LResourceLedger$Entry;LResourceLedger$Entry;)Z"⟩
abbrev cX1_plant : ByteArray := prog_1_method_87_code
def yX1_plant : MethodName := ⟨RX1, "plant", "(LResourceLedger$Entry;)V"⟩
abbrev cX1_digestBytes : ByteArray := prog_1_method_86_code
def yX1_digestBytes : MethodName := ⟨RX1, "digestBytes", "([BI)V"⟩
abbrev cX1_slips : ByteArray := prog_1_method_91_code
def yX1_slips : MethodName := ⟨RX1, "slips", "()I"⟩
theorem q265 : (Jvm.Cond.initialized "ResourceLedger") ∈ lw_all := lw_g (lw_at lw_m1 1 rfl) rfl
theorem q307 : (Jvm.Cond.instantiable "ResourceLedger" (34 : Nat)) ∈ lw_all := lw_g (lw_at lw_m1 43 rfl) rfl
theorem q309 : (Jvm.Cond.instanceMethod ({ cls := "ResourceLedger", name := "<init>", desc := "(I)V" } : Jvm.MethodName)) ∈ lw_all := lw_g (lw_at lw_m1 45 rfl) rfl
theorem q310 : (Jvm.Cond.code ({ cls := "ResourceLedger", name := "<init>", desc := "(I)V" } : Jvm.MethodName) prog_1_method_2_code (4 : Nat) (Option.none : Option Jvm.ClassFile.FieldType)) ∈ lw_all := lw_g (lw_at lw_m1 46 rfl) rfl
theorem q311 : (Jvm.Cond.methodLink "ResourceLedger" (37 : Nat) ({ cls := "java/lang/Object", name := "<init>", desc := "()V" } : Jvm.MethodName)) ∈ lw_all := lw_g (lw_at lw_m1 47 rfl) rfl
theorem q314 : (Jvm.Cond.classLink "ResourceLedger" (43 : Nat) "ResourceLedger$Module") ∈ lw_all := lw_g (lw_at lw_m1 50 rfl) rfl
theorem q316 : (Jvm.Cond.methodLinkNest "ResourceLedger" (45 : Nat) ({ cls := "ResourceLedger$Module", name := "<init>", desc := "()V" } : Jvm.MethodName) "ResourceLedger") ∈ lw_tbl := lw_at lw_m1 52 rfl
theorem q366 : (Jvm.Cond.fieldLinkNest "ResourceLedger" (325 : Nat) "ResourceLedger$Span" "count" "I" "ResourceLedger") ∈ lw_tbl := lw_at lw_m1 102 rfl
theorem q381 : (Jvm.Cond.fieldLinkNest "ResourceLedger" (672 : Nat) "ResourceLedger$Code" "operations" "[B" "ResourceLedger") ∈ lw_tbl := lw_at lw_m1 117 rfl
theorem q385 : (Jvm.Cond.fieldLinkNest "ResourceLedger" (677 : Nat) "ResourceLedger$Code" "ones" "[J" "ResourceLedger") ∈ lw_tbl := lw_at lw_m1 121 rfl
theorem q389 : (Jvm.Cond.fieldLinkNest "ResourceLedger" (684 : Nat) "ResourceLedger$Code" "others" "[J" "ResourceLedger") ∈ lw_tbl := lw_at lw_m1 125 rfl
theorem q416 : (Jvm.Cond.fieldLinkNest "ResourceLedger" (428 : Nat) "ResourceLedger$Structure" "abilities" "I" "ResourceLedger") ∈ lw_tbl := lw_at lw_m1 152 rfl
theorem q421 : (Jvm.Cond.fieldLinkNest "ResourceLedger" (470 : Nat) "ResourceLedger$Structure" "fields" "LResourceLedger$Span;" "ResourceLedger") ∈ lw_tbl := lw_at lw_m1 157 rfl
theorem q423 : (Jvm.Cond.fieldLinkNest "ResourceLedger" (420 : Nat) "ResourceLedger$Structure" "module" "I" "ResourceLedger") ∈ lw_tbl := lw_at lw_m1 159 rfl
theorem q425 : (Jvm.Cond.fieldLinkNest "ResourceLedger" (424 : Nat) "ResourceLedger$Structure" "number" "I" "ResourceLedger") ∈ lw_tbl := lw_at lw_m1 161 rfl
theorem q445 : (Jvm.Cond.fieldLinkNest "ResourceLedger" (314 : Nat) "ResourceLedger$Function" "flags" "I" "ResourceLedger") ∈ lw_tbl := lw_at lw_m1 181 rfl
theorem q449 : (Jvm.Cond.fieldLinkNest "ResourceLedger" (321 : Nat) "ResourceLedger$Function" "takes" "LResourceLedger$Span;" "ResourceLedger") ∈ lw_tbl := lw_at lw_m1 185 rfl
theorem q452 : (Jvm.Cond.fieldLinkNest "ResourceLedger" (343 : Nat) "ResourceLedger$Function" "gives" "LResourceLedger$Span;" "ResourceLedger") ∈ lw_tbl := lw_at lw_m1 188 rfl
theorem q460 : (Jvm.Cond.fieldLinkNest "ResourceLedger" (671 : Nat) "ResourceLedger$Function" "from" "I" "ResourceLedger") ∈ lw_tbl := lw_at lw_m1 196 rfl
theorem q464 : (Jvm.Cond.fieldLinkNest "ResourceLedger" (434 : Nat) "ResourceLedger$Function" "module" "I" "ResourceLedger") ∈ lw_tbl := lw_at lw_m1 200 rfl
theorem q466 : (Jvm.Cond.fieldLinkNest "ResourceLedger" (435 : Nat) "ResourceLedger$Function" "number" "I" "ResourceLedger") ∈ lw_tbl := lw_at lw_m1 202 rfl
theorem q484 : (Jvm.Cond.fieldLinkNest "ResourceLedger" (398 : Nat) "ResourceLedger$Tables" "number" "I" "ResourceLedger") ∈ lw_tbl := lw_at lw_m1 220 rfl
theorem q489 : (Jvm.Cond.fieldLinkNest "ResourceLedger" (416 : Nat) "ResourceLedger$Tables" "structures" "[LResourceLedger$Structure;" "ResourceLedger") ∈ lw_tbl := lw_at lw_m1 225 rfl
theorem q491 : (Jvm.Cond.fieldLinkNest "ResourceLedger" (310 : Nat) "ResourceLedger$Tables" "functions" "[LResourceLedger$Function;" "ResourceLedger") ∈ lw_tbl := lw_at lw_m1 227 rfl
theorem q496 : (Jvm.Cond.fieldLinkNest "ResourceLedger" (331 : Nat) "ResourceLedger$Tables" "types" "LResourceLedger$Types;" "ResourceLedger") ∈ lw_tbl := lw_at lw_m1 232 rfl
theorem q503 : (Jvm.Cond.fieldLinkNest "ResourceLedger" (667 : Nat) "ResourceLedger$Tables" "code" "LResourceLedger$Code;" "ResourceLedger") ∈ lw_tbl := lw_at lw_m1 239 rfl
theorem q506 : (Jvm.Cond.fieldLinkNest "ResourceLedger" (425 : Nat) "ResourceLedger$Tables" "own" "I" "ResourceLedger") ∈ lw_tbl := lw_at lw_m2 2 rfl
theorem q509 : (Jvm.Cond.fieldLinkNest "ResourceLedger" (413 : Nat) "ResourceLedger$Tables" "foreign" "I" "ResourceLedger") ∈ lw_tbl := lw_at lw_m2 5 rfl
theorem q511 : (Jvm.Cond.fieldLinkNest "ResourceLedger" (305 : Nat) "ResourceLedger$Tables" "ownFunctions" "I" "ResourceLedger") ∈ lw_tbl := lw_at lw_m2 7 rfl
theorem q515 : (Jvm.Cond.fieldLinkNest "ResourceLedger" (431 : Nat) "ResourceLedger$Tables" "foreignFunctions" "I" "ResourceLedger") ∈ lw_tbl := lw_at lw_m2 11 rfl
theorem q538 : (Jvm.Cond.fieldLinkNest "ResourceLedger" (155 : Nat) "ResourceLedger$Module" "tables" "LResourceLedger$Tables;" "ResourceLedger") ∈ lw_tbl := lw_at lw_m2 34 rfl
theorem q540 : (Jvm.Cond.fieldLinkNest "ResourceLedger" (859 : Nat) "ResourceLedger$Module" "bytes" "[B" "ResourceLedger") ∈ lw_tbl := lw_at lw_m2 36 rfl
theorem q541 : (Jvm.Cond.fieldLinkNest "ResourceLedger" (387 : Nat) "ResourceLedger$Module" "size" "I" "ResourceLedger") ∈ lw_tbl := lw_at lw_m2 37 rfl
theorem q543 : (Jvm.Cond.fieldLinkNest "ResourceLedger" (163 : Nat) "ResourceLedger$Module" "depths" "[I" "ResourceLedger") ∈ lw_tbl := lw_at lw_m2 39 rfl
theorem q553 : (Jvm.Cond.classLink "ResourceLedger" (52 : Nat) "ResourceLedger$Entries") ∈ lw_all := lw_g (lw_at lw_m2 49 rfl) rfl
theorem q555 : (Jvm.Cond.methodLink "ResourceLedger" (54 : Nat) ({ cls := "ResourceLedger$Entries", name := "<init>", desc := "(I)V" } : Jvm.MethodName)) ∈ lw_all := lw_g (lw_at lw_m2 51 rfl) rfl
theorem q567 : (Jvm.Cond.fieldLinkNest "ResourceLedger" (270 : Nat) "ResourceLedger$Entry" "kind" "I" "ResourceLedger") ∈ lw_tbl := lw_at lw_m2 63 rfl
theorem q569 : (Jvm.Cond.fieldLinkNest "ResourceLedger" (781 : Nat) "ResourceLedger$Entry" "a" "J" "ResourceLedger") ∈ lw_tbl := lw_at lw_m2 65 rfl
theorem q571 : (Jvm.Cond.fieldLinkNest "ResourceLedger" (784 : Nat) "ResourceLedger$Entry" "b" "I" "ResourceLedger") ∈ lw_tbl := lw_at lw_m2 67 rfl
theorem q572 : (Jvm.Cond.fieldLinkNest "ResourceLedger" (240 : Nat) "ResourceLedger$Entry" "there" "Z" "ResourceLedger") ∈ lw_tbl := lw_at lw_m2 68 rfl
theorem q573 : (Jvm.Cond.fieldLinkNest "ResourceLedger" (243 : Nat) "ResourceLedger$Entry" "balance" "J" "ResourceLedger") ∈ lw_tbl := lw_at lw_m2 69 rfl
theorem q574 : (Jvm.Cond.fieldLinkNest "ResourceLedger" (246 : Nat) "ResourceLedger$Entry" "sequence" "J" "ResourceLedger") ∈ lw_tbl := lw_at lw_m2 70 rfl
theorem q575 : (Jvm.Cond.fieldLinkNest "ResourceLedger" (249 : Nat) "ResourceLedger$Entry" "module" "LResourceLedger$Module;" "ResourceLedger") ∈ lw_tbl := lw_at lw_m2 71 rfl
theorem q577 : (Jvm.Cond.fieldLinkNest "ResourceLedger" (252 : Nat) "ResourceLedger$Entry" "value" "LResourceLedger$Value;" "ResourceLedger") ∈ lw_tbl := lw_at lw_m2 73 rfl
theorem q578 : (Jvm.Cond.fieldLinkNest "ResourceLedger" (233 : Nat) "ResourceLedger$Entry" "from" "I" "ResourceLedger") ∈ lw_tbl := lw_at lw_m2 74 rfl
theorem q579 : (Jvm.Cond.fieldLinkNest "ResourceLedger" (239 : Nat) "ResourceLedger$Entry" "run" "I" "ResourceLedger") ∈ lw_tbl := lw_at lw_m2 75 rfl
theorem q580 : (Jvm.Cond.fieldLinkNest "ResourceLedger" (260 : Nat) "ResourceLedger$Entry" "wasThere" "Z" "ResourceLedger") ∈ lw_tbl := lw_at lw_m2 76 rfl
theorem q581 : (Jvm.Cond.fieldLinkNest "ResourceLedger" (263 : Nat) "ResourceLedger$Entry" "changed" "Z" "ResourceLedger") ∈ lw_tbl := lw_at lw_m2 77 rfl
theorem q582 : (Jvm.Cond.fieldLinkNest "ResourceLedger" (216 : Nat) "ResourceLedger$Entry" "guessed" "Z" "ResourceLedger") ∈ lw_tbl := lw_at lw_m2 78 rfl
theorem q612 : (Jvm.Cond.fieldLinkNest "ResourceLedger" (222 : Nat) "ResourceLedger$Entries" "row" "[LResourceLedger$Entry;" "ResourceLedger") ∈ lw_tbl := lw_at lw_m2 108 rfl
theorem q615 : (Jvm.Cond.fieldLinkNest "ResourceLedger" (226 : Nat) "ResourceLedger$Entries" "count" "I" "ResourceLedger") ∈ lw_tbl := lw_at lw_m2 111 rfl
theorem q621 : (Jvm.Cond.classLink "ResourceLedger" (61 : Nat) "ResourceLedger$Pool") ∈ lw_all := lw_g (lw_at lw_m2 117 rfl) rfl
theorem q623 : (Jvm.Cond.methodLinkNest "ResourceLedger" (63 : Nat) ({ cls := "ResourceLedger$Pool", name := "<init>", desc := "()V" } : Jvm.MethodName) "ResourceLedger") ∈ lw_tbl := lw_at lw_m2 119 rfl
theorem q631 : (Jvm.Cond.classLink "ResourceLedger" (68 : Nat) "ResourceLedger$Transaction") ∈ lw_all := lw_g (lw_at lw_m2 127 rfl) rfl
theorem q633 : (Jvm.Cond.classLink "ResourceLedger" (78 : Nat) "ResourceLedger$Reader") ∈ lw_all := lw_g (lw_at lw_m2 129 rfl) rfl
theorem q635 : (Jvm.Cond.methodLinkNest "ResourceLedger" (80 : Nat) ({ cls := "ResourceLedger$Reader", name := "<init>", desc := "()V" } : Jvm.MethodName) "ResourceLedger") ∈ lw_tbl := lw_at lw_m2 131 rfl
theorem q706 : (Jvm.Cond.fieldLinkNest "ResourceLedger" (150 : Nat) "ResourceLedger$Reader" "tape" "[B" "ResourceLedger") ∈ lw_tbl := lw_at lw_m2 202 rfl
theorem q707 : (Jvm.Cond.fieldLinkNest "ResourceLedger" (151 : Nat) "ResourceLedger$Reader" "size" "I" "ResourceLedger") ∈ lw_tbl := lw_at lw_m2 203 rfl
theorem q713 : (Jvm.Cond.fieldLinkNest "ResourceLedger" (861 : Nat) "ResourceLedger$Reader" "place" "I" "ResourceLedger") ∈ lw_tbl := lw_at lw_m2 209 rfl
theorem q736 : (Jvm.Cond.classLink "ResourceLedger" (85 : Nat) "ResourceLedger$Checker") ∈ lw_all := lw_g (lw_at lw_m2 232 rfl) rfl
theorem q738 : (Jvm.Cond.methodLinkNest "ResourceLedger" (87 : Nat) ({ cls := "ResourceLedger$Checker", name := "<init>", desc := "()V" } : Jvm.MethodName) "ResourceLedger") ∈ lw_tbl := lw_at lw_m2 234 rfl
theorem q782 : (Jvm.Cond.fieldLinkNest "ResourceLedger" (469 : Nat) "ResourceLedger$Checker" "at" "I" "ResourceLedger") ∈ lw_tbl := lw_at lw_m3 38 rfl
theorem q829 : (Jvm.Cond.classLink "ResourceLedger" (95 : Nat) "ResourceLedger$HashTree") ∈ lw_all := lw_g (lw_at lw_m3 85 rfl) rfl
theorem q831 : (Jvm.Cond.methodLinkNest "ResourceLedger" (97 : Nat) ({ cls := "ResourceLedger$HashTree", name := "<init>", desc := "()V" } : Jvm.MethodName) "ResourceLedger") ∈ lw_tbl := lw_at lw_m3 87 rfl
theorem q924 : (Jvm.Cond.fieldLinkNest "ResourceLedger" (650 : Nat) "ResourceLedger$HashTree" "digest" "LResourceLedger$HashTree$Digest;" "ResourceLedger") ∈ lw_tbl := lw_at lw_m3 180 rfl
theorem q946 : (Jvm.Cond.classLink "ResourceLedger" (105 : Nat) "java/lang/IllegalStateException") ∈ lw_all := lw_g (lw_at lw_m3 202 rfl) rfl
theorem q947 : (Jvm.Cond.stringRef "ResourceLedger" (107 : Nat) "stopped") ∈ lw_tbl := lw_at lw_m3 203 rfl
theorem q948 : (Jvm.Cond.methodLink "ResourceLedger" (109 : Nat) ({ cls := "java/lang/IllegalStateException", name := "<init>", desc := "(Ljava/lang/String;)V" } : Jvm.MethodName)) ∈ lw_all := lw_g (lw_at lw_m3 204 rfl) rfl
theorem q949 : (Jvm.Cond.classLink "ResourceLedger" (115 : Nat) "ResourceLedger$Wide") ∈ lw_all := lw_g (lw_at lw_m3 205 rfl) rfl
theorem q951 : (Jvm.Cond.methodLinkNest "ResourceLedger" (117 : Nat) ({ cls := "ResourceLedger$Wide", name := "<init>", desc := "()V" } : Jvm.MethodName) "ResourceLedger") ∈ lw_tbl := lw_at lw_m3 207 rfl
theorem q956 : (Jvm.Cond.fieldLinkNest "ResourceLedger" (556 : Nat) "ResourceLedger$Wide" "high" "J" "ResourceLedger") ∈ lw_tbl := lw_at lw_m3 212 rfl
theorem q958 : (Jvm.Cond.fieldLinkNest "ResourceLedger" (557 : Nat) "ResourceLedger$Wide" "low" "J" "ResourceLedger") ∈ lw_tbl := lw_at lw_m3 214 rfl
theorem q968 : (Jvm.Cond.methodLink "ResourceLedger" (130 : Nat) ({ cls := "java/lang/Math", name := "min", desc := "(II)I" } : Jvm.MethodName)) ∈ lw_all := lw_g (lw_at lw_m3 224 rfl) rfl
theorem q971 : (Jvm.Cond.methodLink "ResourceLedger" (136 : Nat) ({ cls := "java/lang/Math", name := "max", desc := "(II)I" } : Jvm.MethodName)) ∈ lw_all := lw_g (lw_at lw_m3 227 rfl) rfl
theorem q974 : (Jvm.Cond.classLink "ResourceLedger" (139 : Nat) "ResourceLedger$Worker") ∈ lw_all := lw_g (lw_at lw_m3 230 rfl) rfl
theorem q977 : (Jvm.Cond.methodLink "ResourceLedger" (145 : Nat) ({ cls := "ResourceLedger$Worker", name := "<init>", desc := "()V" } : Jvm.MethodName)) ∈ lw_all := lw_g (lw_at lw_m3 233 rfl) rfl
theorem q992 : (Jvm.Cond.fieldLinkNest "ResourceLedger" (376 : Nat) "ResourceLedger$Frame" "module" "LResourceLedger$Module;" "ResourceLedger") ∈ lw_tbl := lw_at lw_m4 8 rfl
theorem q993 : (Jvm.Cond.fieldLinkNest "ResourceLedger" (377 : Nat) "ResourceLedger$Frame" "function" "LResourceLedger$Function;" "ResourceLedger") ∈ lw_tbl := lw_at lw_m4 9 rfl
theorem q994 : (Jvm.Cond.fieldLinkNest "ResourceLedger" (380 : Nat) "ResourceLedger$Frame" "at" "I" "ResourceLedger") ∈ lw_tbl := lw_at lw_m4 10 rfl
theorem q997 : (Jvm.Cond.fieldLinkNest "ResourceLedger" (352 : Nat) "ResourceLedger$Frame" "locals" "[LResourceLedger$Value;" "ResourceLedger") ∈ lw_tbl := lw_at lw_m4 13 rfl
theorem q1000 : (Jvm.Cond.fieldLinkNest "ResourceLedger" (487 : Nat) "ResourceLedger$Frame" "stack" "[LResourceLedger$Value;" "ResourceLedger") ∈ lw_tbl := lw_at lw_m4 16 rfl
theorem q1002 : (Jvm.Cond.fieldLinkNest "ResourceLedger" (383 : Nat) "ResourceLedger$Frame" "height" "I" "ResourceLedger") ∈ lw_tbl := lw_at lw_m4 18 rfl
theorem q1016 : (Jvm.Cond.fieldLinkNest "ResourceLedger" (717 : Nat) "ResourceLedger$Worker" "task" "I" "ResourceLedger") ∈ lw_tbl := lw_at lw_m4 32 rfl
theorem q1017 : (Jvm.Cond.fieldLinkNest "ResourceLedger" (184 : Nat) "ResourceLedger$Worker" "t" "I" "ResourceLedger") ∈ lw_tbl := lw_at lw_m4 33 rfl
theorem q1018 : (Jvm.Cond.fieldLinkNest "ResourceLedger" (739 : Nat) "ResourceLedger$Worker" "run" "I" "ResourceLedger") ∈ lw_tbl := lw_at lw_m4 34 rfl
theorem q1019 : (Jvm.Cond.fieldLinkNest "ResourceLedger" (740 : Nat) "ResourceLedger$Worker" "looked" "I" "ResourceLedger") ∈ lw_tbl := lw_at lw_m4 35 rfl
theorem q1020 : (Jvm.Cond.fieldLinkNest "ResourceLedger" (746 : Nat) "ResourceLedger$Worker" "begun" "Z" "ResourceLedger") ∈ lw_tbl := lw_at lw_m4 36 rfl
theorem q1022 : (Jvm.Cond.fieldLinkNest "ResourceLedger" (369 : Nat) "ResourceLedger$Worker" "frames" "[LResourceLedger$Frame;" "ResourceLedger") ∈ lw_tbl := lw_at lw_m4 38 rfl
theorem q1024 : (Jvm.Cond.fieldLinkNest "ResourceLedger" (373 : Nat) "ResourceLedger$Worker" "depth" "I" "ResourceLedger") ∈ lw_tbl := lw_at lw_m4 40 rfl
theorem q1025 : (Jvm.Cond.fieldLinkNest "ResourceLedger" (181 : Nat) "ResourceLedger$Worker" "gas" "I" "ResourceLedger") ∈ lw_tbl := lw_at lw_m4 41 rfl
theorem q1027 : (Jvm.Cond.fieldLinkNest "ResourceLedger" (202 : Nat) "ResourceLedger$Worker" "entries" "LResourceLedger$Entries;" "ResourceLedger") ∈ lw_tbl := lw_at lw_m4 43 rfl
theorem q1028 : (Jvm.Cond.fieldLinkNest "ResourceLedger" (205 : Nat) "ResourceLedger$Worker" "asked" "I" "ResourceLedger") ∈ lw_tbl := lw_at lw_m4 44 rfl
theorem q1029 : (Jvm.Cond.fieldLinkNest "ResourceLedger" (285 : Nat) "ResourceLedger$Worker" "balance" "J" "ResourceLedger") ∈ lw_tbl := lw_at lw_m4 45 rfl
theorem q1030 : (Jvm.Cond.fieldLinkNest "ResourceLedger" (286 : Nat) "ResourceLedger$Worker" "sequence" "J" "ResourceLedger") ∈ lw_tbl := lw_at lw_m4 46 rfl
theorem q1057 : (Jvm.Cond.methodLinkNest "ResourceLedger" (146 : Nat) ({ cls := "ResourceLedger$Transaction", name := "<init>", desc := "()V" } : Jvm.MethodName) "ResourceLedger") ∈ lw_tbl := lw_at lw_m4 73 rfl
theorem q1065 : (Jvm.Cond.fieldLinkNest "ResourceLedger" (287 : Nat) "ResourceLedger$Transaction" "publishes" "Z" "ResourceLedger") ∈ lw_tbl := lw_at lw_m4 81 rfl
theorem q1066 : (Jvm.Cond.fieldLinkNest "ResourceLedger" (277 : Nat) "ResourceLedger$Transaction" "sender" "J" "ResourceLedger") ∈ lw_tbl := lw_at lw_m4 82 rfl
theorem q1067 : (Jvm.Cond.fieldLinkNest "ResourceLedger" (280 : Nat) "ResourceLedger$Transaction" "sequence" "J" "ResourceLedger") ∈ lw_tbl := lw_at lw_m4 83 rfl
theorem q1068 : (Jvm.Cond.fieldLinkNest "ResourceLedger" (187 : Nat) "ResourceLedger$Transaction" "limit" "I" "ResourceLedger") ∈ lw_tbl := lw_at lw_m4 84 rfl
theorem q1069 : (Jvm.Cond.fieldLinkNest "ResourceLedger" (294 : Nat) "ResourceLedger$Transaction" "moduleNumber" "I" "ResourceLedger") ∈ lw_tbl := lw_at lw_m4 85 rfl
theorem q1070 : (Jvm.Cond.fieldLinkNest "ResourceLedger" (302 : Nat) "ResourceLedger$Transaction" "function" "I" "ResourceLedger") ∈ lw_tbl := lw_at lw_m4 86 rfl
theorem q1072 : (Jvm.Cond.fieldLinkNest "ResourceLedger" (339 : Nat) "ResourceLedger$Transaction" "types" "[I" "ResourceLedger") ∈ lw_tbl := lw_at lw_m4 88 rfl
theorem q1074 : (Jvm.Cond.fieldLinkNest "ResourceLedger" (358 : Nat) "ResourceLedger$Transaction" "highs" "[J" "ResourceLedger") ∈ lw_tbl := lw_at lw_m4 90 rfl
theorem q1076 : (Jvm.Cond.fieldLinkNest "ResourceLedger" (362 : Nat) "ResourceLedger$Transaction" "lows" "[J" "ResourceLedger") ∈ lw_tbl := lw_at lw_m4 92 rfl
theorem q1077 : (Jvm.Cond.fieldLinkNest "ResourceLedger" (328 : Nat) "ResourceLedger$Transaction" "arguments" "I" "ResourceLedger") ∈ lw_tbl := lw_at lw_m4 93 rfl
theorem q1079 : (Jvm.Cond.fieldLinkNest "ResourceLedger" (386 : Nat) "ResourceLedger$Transaction" "module" "LResourceLedger$Module;" "ResourceLedger") ∈ lw_tbl := lw_at lw_m4 95 rfl
theorem q1080 : (Jvm.Cond.fieldLinkNest "ResourceLedger" (388 : Nat) "ResourceLedger$Transaction" "fault" "I" "ResourceLedger") ∈ lw_tbl := lw_at lw_m4 96 rfl
theorem q1081 : (Jvm.Cond.fieldLinkNest "ResourceLedger" (391 : Nat) "ResourceLedger$Transaction" "faultPlace" "I" "ResourceLedger") ∈ lw_tbl := lw_at lw_m4 97 rfl
theorem q1082 : (Jvm.Cond.fieldLinkNest "ResourceLedger" (811 : Nat) "ResourceLedger$Transaction" "done" "Z" "ResourceLedger") ∈ lw_tbl := lw_at lw_m4 98 rfl
theorem q1083 : (Jvm.Cond.fieldLinkNest "ResourceLedger" (737 : Nat) "ResourceLedger$Transaction" "state" "I" "ResourceLedger") ∈ lw_tbl := lw_at lw_m4 99 rfl
theorem q1084 : (Jvm.Cond.fieldLinkNest "ResourceLedger" (236 : Nat) "ResourceLedger$Transaction" "run" "I" "ResourceLedger") ∈ lw_tbl := lw_at lw_m4 100 rfl
theorem q1085 : (Jvm.Cond.fieldLinkNest "ResourceLedger" (765 : Nat) "ResourceLedger$Transaction" "holder" "I" "ResourceLedger") ∈ lw_tbl := lw_at lw_m4 101 rfl
theorem q1087 : (Jvm.Cond.fieldLinkNest "ResourceLedger" (195 : Nat) "ResourceLedger$Transaction" "left" "LResourceLedger$Entries;" "ResourceLedger") ∈ lw_tbl := lw_at lw_m4 103 rfl
theorem q1089 : (Jvm.Cond.fieldLinkNest "ResourceLedger" (778 : Nat) "ResourceLedger$Transaction" "read" "LResourceLedger$Entries;" "ResourceLedger") ∈ lw_tbl := lw_at lw_m4 105 rfl
theorem q1090 : (Jvm.Cond.fieldLinkNest "ResourceLedger" (770 : Nat) "ResourceLedger$Transaction" "outcome" "I" "ResourceLedger") ∈ lw_tbl := lw_at lw_m4 106 rfl
theorem q1091 : (Jvm.Cond.fieldLinkNest "ResourceLedger" (773 : Nat) "ResourceLedger$Transaction" "code" "J" "ResourceLedger") ∈ lw_tbl := lw_at lw_m4 107 rfl
theorem q1092 : (Jvm.Cond.fieldLinkNest "ResourceLedger" (411 : Nat) "ResourceLedger$Transaction" "place" "I" "ResourceLedger") ∈ lw_tbl := lw_at lw_m4 108 rfl
theorem q1093 : (Jvm.Cond.fieldLinkNest "ResourceLedger" (775 : Nat) "ResourceLedger$Transaction" "used" "I" "ResourceLedger") ∈ lw_tbl := lw_at lw_m4 109 rfl
theorem q1095 : (Jvm.Cond.fieldLinkNest "ResourceLedger" (635 : Nat) "ResourceLedger$Transaction" "resultHighs" "[J" "ResourceLedger") ∈ lw_tbl := lw_at lw_m4 111 rfl
theorem q1097 : (Jvm.Cond.fieldLinkNest "ResourceLedger" (638 : Nat) "ResourceLedger$Transaction" "resultLows" "[J" "ResourceLedger") ∈ lw_tbl := lw_at lw_m4 113 rfl
theorem q1099 : (Jvm.Cond.fieldLinkNest "ResourceLedger" (632 : Nat) "ResourceLedger$Transaction" "resultTypes" "[I" "ResourceLedger") ∈ lw_tbl := lw_at lw_m4 115 rfl
theorem q1100 : (Jvm.Cond.fieldLinkNest "ResourceLedger" (629 : Nat) "ResourceLedger$Transaction" "results" "I" "ResourceLedger") ∈ lw_tbl := lw_at lw_m4 116 rfl
theorem q1156 : (Jvm.Cond.fieldLink "ResourceLedger" (147 : Nat) "ResourceLedger" "COIN" "[I") ∈ lw_all := lw_g (lw_at lw_m4 172 rfl) rfl
theorem q1157 : (Jvm.Cond.laysStatic "ResourceLedger" "COIN" "[I") ∈ lw_tbl := lw_at lw_m4 173 rfl
theorem q1158 : (Jvm.Cond.methodLink "ResourceLedger" (159 : Nat) ({ cls := "ResourceLedger$Reader", name := "readInto", desc := "(LResourceLedger$Tables;)I" } : Jvm.MethodName)) ∈ lw_all := lw_g (lw_at lw_m4 174 rfl) rfl
theorem q1229 : (Jvm.Cond.static ({ cls := "ResourceLedger", name := "formOf", desc := "(I)LResourceLedger$Form;" } : Jvm.MethodName)) ∈ lw_all := lw_g (lw_at lw_m5 5 rfl) rfl
theorem q1230 : (Jvm.Cond.code ({ cls := "ResourceLedger", name := "formOf", desc := "(I)LResourceLedger$Form;" } : Jvm.MethodName) prog_1_method_1_code (1 : Nat) (Option.some (Jvm.ClassFile.FieldType.object "ResourceLedger$Form"))) ∈ lw_all := lw_g (lw_at lw_m5 6 rfl) rfl
theorem q1231 : (Jvm.Cond.fieldLink "ResourceLedger" (1 : Nat) "ResourceLedger$Form" "TARGET" "LResourceLedger$Form;") ∈ lw_all := lw_g (lw_at lw_m5 7 rfl) rfl
theorem q1233 : (Jvm.Cond.fieldLink "ResourceLedger" (7 : Nat) "ResourceLedger$Form" "BYTE" "LResourceLedger$Form;") ∈ lw_all := lw_g (lw_at lw_m5 9 rfl) rfl
theorem q1235 : (Jvm.Cond.fieldLink "ResourceLedger" (10 : Nat) "ResourceLedger$Form" "LONG" "LResourceLedger$Form;") ∈ lw_all := lw_g (lw_at lw_m5 11 rfl) rfl
theorem q1237 : (Jvm.Cond.fieldLink "ResourceLedger" (13 : Nat) "ResourceLedger$Form" "WIDE" "LResourceLedger$Form;") ∈ lw_all := lw_g (lw_at lw_m5 13 rfl) rfl
theorem q1239 : (Jvm.Cond.fieldLink "ResourceLedger" (16 : Nat) "ResourceLedger$Form" "LOCAL" "LResourceLedger$Form;") ∈ lw_all := lw_g (lw_at lw_m5 15 rfl) rfl
theorem q1241 : (Jvm.Cond.fieldLink "ResourceLedger" (19 : Nat) "ResourceLedger$Form" "FIELD" "LResourceLedger$Form;") ∈ lw_all := lw_g (lw_at lw_m5 17 rfl) rfl
theorem q1243 : (Jvm.Cond.fieldLink "ResourceLedger" (22 : Nat) "ResourceLedger$Form" "OWN" "LResourceLedger$Form;") ∈ lw_all := lw_g (lw_at lw_m5 19 rfl) rfl
theorem q1245 : (Jvm.Cond.fieldLink "ResourceLedger" (25 : Nat) "ResourceLedger$Form" "FUNCTION" "LResourceLedger$Form;") ∈ lw_all := lw_g (lw_at lw_m5 21 rfl) rfl
theorem q1247 : (Jvm.Cond.fieldLink "ResourceLedger" (28 : Nat) "ResourceLedger$Form" "MAKE" "LResourceLedger$Form;") ∈ lw_all := lw_g (lw_at lw_m5 23 rfl) rfl
theorem q1249 : (Jvm.Cond.fieldLink "ResourceLedger" (31 : Nat) "ResourceLedger$Form" "ELEMENT" "LResourceLedger$Form;") ∈ lw_all := lw_g (lw_at lw_m5 25 rfl) rfl
theorem q1251 : (Jvm.Cond.fieldLink "ResourceLedger" (34 : Nat) "ResourceLedger$Form" "NONE" "LResourceLedger$Form;") ∈ lw_all := lw_g (lw_at lw_m5 27 rfl) rfl
theorem q1306 : (Jvm.Cond.fieldLink "ResourceLedger" (46 : Nat) "ResourceLedger" "coin" "LResourceLedger$Module;") ∈ lw_all := lw_g (lw_at lw_m5 82 rfl) rfl
theorem q1307 : (Jvm.Cond.fieldLink "ResourceLedger" (57 : Nat) "ResourceLedger" "state" "LResourceLedger$Entries;") ∈ lw_all := lw_g (lw_at lw_m5 83 rfl) rfl
theorem q1308 : (Jvm.Cond.fieldLink "ResourceLedger" (64 : Nat) "ResourceLedger" "pool" "LResourceLedger$Pool;") ∈ lw_all := lw_g (lw_at lw_m5 84 rfl) rfl
theorem q1309 : (Jvm.Cond.fieldLink "ResourceLedger" (70 : Nat) "ResourceLedger" "block" "[LResourceLedger$Transaction;") ∈ lw_all := lw_g (lw_at lw_m5 85 rfl) rfl
theorem q1310 : (Jvm.Cond.fieldLink "ResourceLedger" (800 : Nat) "ResourceLedger" "count" "I") ∈ lw_all := lw_g (lw_at lw_m5 86 rfl) rfl
theorem q1311 : (Jvm.Cond.fieldLink "ResourceLedger" (192 : Nat) "ResourceLedger" "first" "I") ∈ lw_all := lw_g (lw_at lw_m5 87 rfl) rfl
theorem q1312 : (Jvm.Cond.fieldLink "ResourceLedger" (734 : Nat) "ResourceLedger" "last" "I") ∈ lw_all := lw_g (lw_at lw_m5 88 rfl) rfl
theorem q1313 : (Jvm.Cond.fieldLink "ResourceLedger" (141 : Nat) "ResourceLedger" "workers" "[LResourceLedger$Worker;") ∈ lw_all := lw_g (lw_at lw_m5 89 rfl) rfl
theorem q1314 : (Jvm.Cond.fieldLink "ResourceLedger" (74 : Nat) "ResourceLedger" "weave" "[B") ∈ lw_all := lw_g (lw_at lw_m5 90 rfl) rfl
theorem q1315 : (Jvm.Cond.fieldLink "ResourceLedger" (817 : Nat) "ResourceLedger" "woven" "I") ∈ lw_all := lw_g (lw_at lw_m5 91 rfl) rfl
theorem q1316 : (Jvm.Cond.fieldLink "ResourceLedger" (731 : Nat) "ResourceLedger" "toRun" "I") ∈ lw_all := lw_g (lw_at lw_m5 92 rfl) rfl
theorem q1317 : (Jvm.Cond.fieldLink "ResourceLedger" (728 : Nat) "ResourceLedger" "toLook" "I") ∈ lw_all := lw_g (lw_at lw_m5 93 rfl) rfl
theorem q1318 : (Jvm.Cond.fieldLink "ResourceLedger" (743 : Nat) "ResourceLedger" "busy" "I") ∈ lw_all := lw_g (lw_at lw_m5 94 rfl) rfl
theorem q1319 : (Jvm.Cond.fieldLink "ResourceLedger" (81 : Nat) "ResourceLedger" "reader" "LResourceLedger$Reader;") ∈ lw_all := lw_g (lw_at lw_m5 95 rfl) rfl
theorem q1320 : (Jvm.Cond.fieldLink "ResourceLedger" (88 : Nat) "ResourceLedger" "checker" "LResourceLedger$Checker;") ∈ lw_all := lw_g (lw_at lw_m5 96 rfl) rfl
theorem q1321 : (Jvm.Cond.fieldLink "ResourceLedger" (92 : Nat) "ResourceLedger" "tape" "[B") ∈ lw_all := lw_g (lw_at lw_m5 97 rfl) rfl
theorem q1322 : (Jvm.Cond.fieldLink "ResourceLedger" (843 : Nat) "ResourceLedger" "tapeSize" "I") ∈ lw_all := lw_g (lw_at lw_m5 98 rfl) rfl
theorem q1323 : (Jvm.Cond.fieldLink "ResourceLedger" (848 : Nat) "ResourceLedger" "minted" "J") ∈ lw_all := lw_g (lw_at lw_m5 99 rfl) rfl
theorem q1324 : (Jvm.Cond.fieldLink "ResourceLedger" (826 : Nat) "ResourceLedger" "burned" "J") ∈ lw_all := lw_g (lw_at lw_m5 100 rfl) rfl
theorem q1325 : (Jvm.Cond.fieldLink "ResourceLedger" (98 : Nat) "ResourceLedger" "tree" "LResourceLedger$HashTree;") ∈ lw_all := lw_g (lw_at lw_m5 101 rfl) rfl
theorem q1326 : (Jvm.Cond.fieldLink "ResourceLedger" (814 : Nat) "ResourceLedger" "rooted" "Z") ∈ lw_all := lw_g (lw_at lw_m5 102 rfl) rfl
theorem q1327 : (Jvm.Cond.fieldLink "ResourceLedger" (102 : Nat) "ResourceLedger" "shown" "[B") ∈ lw_all := lw_g (lw_at lw_m5 103 rfl) rfl
theorem q1328 : (Jvm.Cond.fieldLink "ResourceLedger" (872 : Nat) "ResourceLedger" "shownSize" "I") ∈ lw_all := lw_g (lw_at lw_m5 104 rfl) rfl
theorem q1329 : (Jvm.Cond.fieldLink "ResourceLedger" (112 : Nat) "ResourceLedger" "stopped" "Ljava/lang/IllegalStateException;") ∈ lw_all := lw_g (lw_at lw_m5 105 rfl) rfl
theorem q1330 : (Jvm.Cond.fieldLink "ResourceLedger" (166 : Nat) "ResourceLedger" "stopOutcome" "I") ∈ lw_all := lw_g (lw_at lw_m5 106 rfl) rfl
theorem q1331 : (Jvm.Cond.fieldLink "ResourceLedger" (169 : Nat) "ResourceLedger" "stopCode" "J") ∈ lw_all := lw_g (lw_at lw_m5 107 rfl) rfl
theorem q1332 : (Jvm.Cond.fieldLink "ResourceLedger" (177 : Nat) "ResourceLedger" "w" "LResourceLedger$Worker;") ∈ lw_all := lw_g (lw_at lw_m5 108 rfl) rfl
theorem q1333 : (Jvm.Cond.fieldLink "ResourceLedger" (118 : Nat) "ResourceLedger" "wide" "LResourceLedger$Wide;") ∈ lw_all := lw_g (lw_at lw_m5 109 rfl) rfl
theorem q1334 : (Jvm.Cond.fieldLink "ResourceLedger" (483 : Nat) "ResourceLedger" "f" "LResourceLedger$Frame;") ∈ lw_all := lw_g (lw_at lw_m5 110 rfl) rfl
theorem q1335 : (Jvm.Cond.fieldLink "ResourceLedger" (801 : Nat) "ResourceLedger" "used" "I") ∈ lw_all := lw_g (lw_at lw_m5 111 rfl) rfl
theorem q1336 : (Jvm.Cond.fieldLink "ResourceLedger" (802 : Nat) "ResourceLedger" "turn" "I") ∈ lw_all := lw_g (lw_at lw_m5 112 rfl) rfl
theorem q1337 : (Jvm.Cond.fieldLink "ResourceLedger" (122 : Nat) "ResourceLedger" "spares" "[LResourceLedger$Module;") ∈ lw_all := lw_g (lw_at lw_m5 113 rfl) rfl
theorem q1338 : (Jvm.Cond.fieldLink "ResourceLedger" (840 : Nat) "ResourceLedger" "spared" "I") ∈ lw_all := lw_g (lw_at lw_m5 114 rfl) rfl
theorem q1339 : (Jvm.Cond.fieldLink "ResourceLedger" (126 : Nat) "ResourceLedger" "order" "[I") ∈ lw_all := lw_g (lw_at lw_m5 115 rfl) rfl
theorem q1340 : (Jvm.Cond.laysFinal "ResourceLedger" "ResourceLedger" "coin" "LResourceLedger$Module;") ∈ lw_all := lw_g (lw_at lw_m5 116 rfl) rfl
theorem q1341 : (Jvm.Cond.soleField "ResourceLedger" "coin") ∈ lw_all := lw_g (lw_at lw_m5 117 rfl) rfl
theorem q1342 : (Jvm.Cond.laysFinal "ResourceLedger" "ResourceLedger" "state" "LResourceLedger$Entries;") ∈ lw_all := lw_g (lw_at lw_m5 118 rfl) rfl
theorem q1343 : (Jvm.Cond.soleField "ResourceLedger" "state") ∈ lw_all := lw_g (lw_at lw_m5 119 rfl) rfl
theorem q1344 : (Jvm.Cond.laysFinal "ResourceLedger" "ResourceLedger" "pool" "LResourceLedger$Pool;") ∈ lw_all := lw_g (lw_at lw_m5 120 rfl) rfl
theorem q1345 : (Jvm.Cond.soleField "ResourceLedger" "pool") ∈ lw_all := lw_g (lw_at lw_m5 121 rfl) rfl
theorem q1346 : (Jvm.Cond.laysFinal "ResourceLedger" "ResourceLedger" "block" "[LResourceLedger$Transaction;") ∈ lw_all := lw_g (lw_at lw_m5 122 rfl) rfl
theorem q1347 : (Jvm.Cond.soleField "ResourceLedger" "block") ∈ lw_all := lw_g (lw_at lw_m5 123 rfl) rfl
theorem q1348 : (Jvm.Cond.lays "ResourceLedger" "ResourceLedger" "count" "I") ∈ lw_all := lw_g (lw_at lw_m5 124 rfl) rfl
theorem q1349 : (Jvm.Cond.soleField "ResourceLedger" "count") ∈ lw_all := lw_g (lw_at lw_m5 125 rfl) rfl
theorem q1350 : (Jvm.Cond.lays "ResourceLedger" "ResourceLedger" "first" "I") ∈ lw_all := lw_g (lw_at lw_m5 126 rfl) rfl
theorem q1351 : (Jvm.Cond.soleField "ResourceLedger" "first") ∈ lw_all := lw_g (lw_at lw_m5 127 rfl) rfl
theorem q1352 : (Jvm.Cond.lays "ResourceLedger" "ResourceLedger" "last" "I") ∈ lw_all := lw_g (lw_at lw_m5 128 rfl) rfl
theorem q1353 : (Jvm.Cond.soleField "ResourceLedger" "last") ∈ lw_all := lw_g (lw_at lw_m5 129 rfl) rfl
theorem q1354 : (Jvm.Cond.laysFinal "ResourceLedger" "ResourceLedger" "workers" "[LResourceLedger$Worker;") ∈ lw_all := lw_g (lw_at lw_m5 130 rfl) rfl
theorem q1355 : (Jvm.Cond.soleField "ResourceLedger" "workers") ∈ lw_all := lw_g (lw_at lw_m5 131 rfl) rfl
theorem q1356 : (Jvm.Cond.laysFinal "ResourceLedger" "ResourceLedger" "weave" "[B") ∈ lw_all := lw_g (lw_at lw_m5 132 rfl) rfl
theorem q1357 : (Jvm.Cond.soleField "ResourceLedger" "weave") ∈ lw_all := lw_g (lw_at lw_m5 133 rfl) rfl
theorem q1358 : (Jvm.Cond.lays "ResourceLedger" "ResourceLedger" "woven" "I") ∈ lw_all := lw_g (lw_at lw_m5 134 rfl) rfl
theorem q1359 : (Jvm.Cond.soleField "ResourceLedger" "woven") ∈ lw_all := lw_g (lw_at lw_m5 135 rfl) rfl
theorem q1360 : (Jvm.Cond.lays "ResourceLedger" "ResourceLedger" "toRun" "I") ∈ lw_all := lw_g (lw_at lw_m5 136 rfl) rfl
theorem q1361 : (Jvm.Cond.soleField "ResourceLedger" "toRun") ∈ lw_all := lw_g (lw_at lw_m5 137 rfl) rfl
theorem q1362 : (Jvm.Cond.lays "ResourceLedger" "ResourceLedger" "toLook" "I") ∈ lw_all := lw_g (lw_at lw_m5 138 rfl) rfl
theorem q1363 : (Jvm.Cond.soleField "ResourceLedger" "toLook") ∈ lw_all := lw_g (lw_at lw_m5 139 rfl) rfl
theorem q1364 : (Jvm.Cond.lays "ResourceLedger" "ResourceLedger" "busy" "I") ∈ lw_all := lw_g (lw_at lw_m5 140 rfl) rfl
theorem q1365 : (Jvm.Cond.soleField "ResourceLedger" "busy") ∈ lw_all := lw_g (lw_at lw_m5 141 rfl) rfl
theorem q1366 : (Jvm.Cond.laysFinal "ResourceLedger" "ResourceLedger" "reader" "LResourceLedger$Reader;") ∈ lw_all := lw_g (lw_at lw_m5 142 rfl) rfl
theorem q1367 : (Jvm.Cond.soleField "ResourceLedger" "reader") ∈ lw_all := lw_g (lw_at lw_m5 143 rfl) rfl
theorem q1368 : (Jvm.Cond.laysFinal "ResourceLedger" "ResourceLedger" "checker" "LResourceLedger$Checker;") ∈ lw_all := lw_g (lw_at lw_m5 144 rfl) rfl
theorem q1369 : (Jvm.Cond.soleField "ResourceLedger" "checker") ∈ lw_all := lw_g (lw_at lw_m5 145 rfl) rfl
theorem q1370 : (Jvm.Cond.laysFinal "ResourceLedger" "ResourceLedger" "tape" "[B") ∈ lw_all := lw_g (lw_at lw_m5 146 rfl) rfl
theorem q1371 : (Jvm.Cond.soleField "ResourceLedger" "tape") ∈ lw_all := lw_g (lw_at lw_m5 147 rfl) rfl
theorem q1372 : (Jvm.Cond.lays "ResourceLedger" "ResourceLedger" "tapeSize" "I") ∈ lw_all := lw_g (lw_at lw_m5 148 rfl) rfl
theorem q1373 : (Jvm.Cond.soleField "ResourceLedger" "tapeSize") ∈ lw_all := lw_g (lw_at lw_m5 149 rfl) rfl
theorem q1374 : (Jvm.Cond.lays "ResourceLedger" "ResourceLedger" "minted" "J") ∈ lw_all := lw_g (lw_at lw_m5 150 rfl) rfl
theorem q1375 : (Jvm.Cond.soleField "ResourceLedger" "minted") ∈ lw_all := lw_g (lw_at lw_m5 151 rfl) rfl
theorem q1376 : (Jvm.Cond.lays "ResourceLedger" "ResourceLedger" "burned" "J") ∈ lw_all := lw_g (lw_at lw_m5 152 rfl) rfl
theorem q1377 : (Jvm.Cond.soleField "ResourceLedger" "burned") ∈ lw_all := lw_g (lw_at lw_m5 153 rfl) rfl
theorem q1378 : (Jvm.Cond.laysFinal "ResourceLedger" "ResourceLedger" "tree" "LResourceLedger$HashTree;") ∈ lw_all := lw_g (lw_at lw_m5 154 rfl) rfl
theorem q1379 : (Jvm.Cond.soleField "ResourceLedger" "tree") ∈ lw_all := lw_g (lw_at lw_m5 155 rfl) rfl
theorem q1380 : (Jvm.Cond.lays "ResourceLedger" "ResourceLedger" "rooted" "Z") ∈ lw_all := lw_g (lw_at lw_m5 156 rfl) rfl
theorem q1381 : (Jvm.Cond.soleField "ResourceLedger" "rooted") ∈ lw_all := lw_g (lw_at lw_m5 157 rfl) rfl
theorem q1382 : (Jvm.Cond.laysFinal "ResourceLedger" "ResourceLedger" "shown" "[B") ∈ lw_all := lw_g (lw_at lw_m5 158 rfl) rfl
theorem q1383 : (Jvm.Cond.soleField "ResourceLedger" "shown") ∈ lw_all := lw_g (lw_at lw_m5 159 rfl) rfl
theorem q1384 : (Jvm.Cond.lays "ResourceLedger" "ResourceLedger" "shownSize" "I") ∈ lw_all := lw_g (lw_at lw_m5 160 rfl) rfl
theorem q1385 : (Jvm.Cond.soleField "ResourceLedger" "shownSize") ∈ lw_all := lw_g (lw_at lw_m5 161 rfl) rfl
theorem q1386 : (Jvm.Cond.laysFinal "ResourceLedger" "ResourceLedger" "stopped" "Ljava/lang/IllegalStateException;") ∈ lw_all := lw_g (lw_at lw_m5 162 rfl) rfl
theorem q1387 : (Jvm.Cond.soleField "ResourceLedger" "stopped") ∈ lw_all := lw_g (lw_at lw_m5 163 rfl) rfl
theorem q1388 : (Jvm.Cond.lays "ResourceLedger" "ResourceLedger" "stopOutcome" "I") ∈ lw_all := lw_g (lw_at lw_m5 164 rfl) rfl
theorem q1389 : (Jvm.Cond.soleField "ResourceLedger" "stopOutcome") ∈ lw_all := lw_g (lw_at lw_m5 165 rfl) rfl
theorem q1390 : (Jvm.Cond.lays "ResourceLedger" "ResourceLedger" "stopCode" "J") ∈ lw_all := lw_g (lw_at lw_m5 166 rfl) rfl
theorem q1391 : (Jvm.Cond.soleField "ResourceLedger" "stopCode") ∈ lw_all := lw_g (lw_at lw_m5 167 rfl) rfl
theorem q1392 : (Jvm.Cond.lays "ResourceLedger" "ResourceLedger" "w" "LResourceLedger$Worker;") ∈ lw_all := lw_g (lw_at lw_m5 168 rfl) rfl
theorem q1393 : (Jvm.Cond.soleField "ResourceLedger" "w") ∈ lw_all := lw_g (lw_at lw_m5 169 rfl) rfl
theorem q1394 : (Jvm.Cond.laysFinal "ResourceLedger" "ResourceLedger" "wide" "LResourceLedger$Wide;") ∈ lw_all := lw_g (lw_at lw_m5 170 rfl) rfl
theorem q1395 : (Jvm.Cond.soleField "ResourceLedger" "wide") ∈ lw_all := lw_g (lw_at lw_m5 171 rfl) rfl
theorem q1396 : (Jvm.Cond.lays "ResourceLedger" "ResourceLedger" "f" "LResourceLedger$Frame;") ∈ lw_all := lw_g (lw_at lw_m5 172 rfl) rfl
theorem q1397 : (Jvm.Cond.soleField "ResourceLedger" "f") ∈ lw_all := lw_g (lw_at lw_m5 173 rfl) rfl
theorem q1398 : (Jvm.Cond.lays "ResourceLedger" "ResourceLedger" "used" "I") ∈ lw_all := lw_g (lw_at lw_m5 174 rfl) rfl
theorem q1399 : (Jvm.Cond.soleField "ResourceLedger" "used") ∈ lw_all := lw_g (lw_at lw_m5 175 rfl) rfl
theorem q1400 : (Jvm.Cond.lays "ResourceLedger" "ResourceLedger" "turn" "I") ∈ lw_all := lw_g (lw_at lw_m5 176 rfl) rfl
theorem q1401 : (Jvm.Cond.soleField "ResourceLedger" "turn") ∈ lw_all := lw_g (lw_at lw_m5 177 rfl) rfl
theorem q1402 : (Jvm.Cond.laysFinal "ResourceLedger" "ResourceLedger" "spares" "[LResourceLedger$Module;") ∈ lw_all := lw_g (lw_at lw_m5 178 rfl) rfl
theorem q1403 : (Jvm.Cond.soleField "ResourceLedger" "spares") ∈ lw_all := lw_g (lw_at lw_m5 179 rfl) rfl
theorem q1404 : (Jvm.Cond.lays "ResourceLedger" "ResourceLedger" "spared" "I") ∈ lw_all := lw_g (lw_at lw_m5 180 rfl) rfl
theorem q1405 : (Jvm.Cond.soleField "ResourceLedger" "spared") ∈ lw_all := lw_g (lw_at lw_m5 181 rfl) rfl
theorem q1406 : (Jvm.Cond.laysFinal "ResourceLedger" "ResourceLedger" "order" "[I") ∈ lw_all := lw_g (lw_at lw_m5 182 rfl) rfl
theorem q1407 : (Jvm.Cond.soleField "ResourceLedger" "order") ∈ lw_all := lw_g (lw_at lw_m5 183 rfl) rfl
theorem q1408 : (Jvm.Cond.superclass "ResourceLedger" "java/lang/Object") ∈ lw_all := lw_g (lw_at lw_m5 184 rfl) rfl
theorem q1410 : (Jvm.Cond.instanceMethod ({ cls := "ResourceLedger", name := "execute", desc := "()I" } : Jvm.MethodName)) ∈ lw_all := lw_g (lw_at lw_m5 186 rfl) rfl
theorem q1411 : (Jvm.Cond.selects "ResourceLedger" ({ cls := "ResourceLedger", name := "execute", desc := "()I" } : Jvm.MethodName) ({ cls := "ResourceLedger", name := "execute", desc := "()I" } : Jvm.MethodName)) ∈ lw_all := lw_g (lw_at lw_m5 187 rfl) rfl
theorem q1412 : (Jvm.Cond.code ({ cls := "ResourceLedger", name := "execute", desc := "()I" } : Jvm.MethodName) prog_1_method_58_code (3 : Nat) (Option.some Jvm.ClassFile.FieldType.int)) ∈ lw_all := lw_g (lw_at lw_m5 188 rfl) rfl
theorem q1413 : (Jvm.Cond.methodLink "ResourceLedger" (805 : Nat) ({ cls := "ResourceLedger", name := "together", desc := "()V" } : Jvm.MethodName)) ∈ lw_all := lw_g (lw_at lw_m5 189 rfl) rfl
theorem q1414 : (Jvm.Cond.privateMethod ({ cls := "ResourceLedger", name := "together", desc := "()V" } : Jvm.MethodName)) ∈ lw_tbl := lw_at lw_m5 190 rfl
theorem q1415 : (Jvm.Cond.instanceMethod ({ cls := "ResourceLedger", name := "together", desc := "()V" } : Jvm.MethodName)) ∈ lw_all := lw_g (lw_at lw_m5 191 rfl) rfl
theorem q1416 : (Jvm.Cond.code ({ cls := "ResourceLedger", name := "together", desc := "()V" } : Jvm.MethodName) prog_1_method_60_code (2 : Nat) (Option.none : Option Jvm.ClassFile.FieldType)) ∈ lw_all := lw_g (lw_at lw_m5 192 rfl) rfl
theorem q1417 : (Jvm.Cond.methodLink "ResourceLedger" (820 : Nat) ({ cls := "ResourceLedger", name := "next", desc := "()I" } : Jvm.MethodName)) ∈ lw_all := lw_g (lw_at lw_m5 193 rfl) rfl
theorem q1418 : (Jvm.Cond.privateMethod ({ cls := "ResourceLedger", name := "next", desc := "()I" } : Jvm.MethodName)) ∈ lw_tbl := lw_at lw_m5 194 rfl
theorem q1419 : (Jvm.Cond.instanceMethod ({ cls := "ResourceLedger", name := "next", desc := "()I" } : Jvm.MethodName)) ∈ lw_all := lw_g (lw_at lw_m5 195 rfl) rfl
theorem q1420 : (Jvm.Cond.code ({ cls := "ResourceLedger", name := "next", desc := "()I" } : Jvm.MethodName) prog_1_method_59_code (2 : Nat) (Option.some Jvm.ClassFile.FieldType.int)) ∈ lw_all := lw_g (lw_at lw_m5 196 rfl) rfl
theorem q1421 : (Jvm.Cond.methodLink "ResourceLedger" (822 : Nat) ({ cls := "ResourceLedger", name := "step", desc := "(LResourceLedger$Worker;)V" } : Jvm.MethodName)) ∈ lw_all := lw_g (lw_at lw_m5 197 rfl) rfl
theorem q1422 : (Jvm.Cond.privateMethod ({ cls := "ResourceLedger", name := "step", desc := "(LResourceLedger$Worker;)V" } : Jvm.MethodName)) ∈ lw_tbl := lw_at lw_m5 198 rfl
theorem q1423 : (Jvm.Cond.instanceMethod ({ cls := "ResourceLedger", name := "step", desc := "(LResourceLedger$Worker;)V" } : Jvm.MethodName)) ∈ lw_all := lw_g (lw_at lw_m5 199 rfl) rfl
theorem q1424 : (Jvm.Cond.code ({ cls := "ResourceLedger", name := "step", desc := "(LResourceLedger$Worker;)V" } : Jvm.MethodName) prog_1_method_47_code (2 : Nat) (Option.none : Option Jvm.ClassFile.FieldType)) ∈ lw_all := lw_g (lw_at lw_m5 200 rfl) rfl
theorem q1425 : (Jvm.Cond.methodLink "ResourceLedger" (720 : Nat) ({ cls := "ResourceLedger", name := "take", desc := "()V" } : Jvm.MethodName)) ∈ lw_all := lw_g (lw_at lw_m5 201 rfl) rfl
theorem q1426 : (Jvm.Cond.privateMethod ({ cls := "ResourceLedger", name := "take", desc := "()V" } : Jvm.MethodName)) ∈ lw_tbl := lw_at lw_m5 202 rfl
theorem q1427 : (Jvm.Cond.instanceMethod ({ cls := "ResourceLedger", name := "take", desc := "()V" } : Jvm.MethodName)) ∈ lw_all := lw_g (lw_at lw_m5 203 rfl) rfl
theorem q1428 : (Jvm.Cond.code ({ cls := "ResourceLedger", name := "take", desc := "()V" } : Jvm.MethodName) prog_1_method_48_code (2 : Nat) (Option.none : Option Jvm.ClassFile.FieldType)) ∈ lw_all := lw_g (lw_at lw_m5 204 rfl) rfl
theorem q1429 : (Jvm.Cond.methodLink "ResourceLedger" (722 : Nat) ({ cls := "ResourceLedger", name := "go", desc := "()V" } : Jvm.MethodName)) ∈ lw_all := lw_g (lw_at lw_m5 205 rfl) rfl
theorem q1430 : (Jvm.Cond.privateMethod ({ cls := "ResourceLedger", name := "go", desc := "()V" } : Jvm.MethodName)) ∈ lw_tbl := lw_at lw_m5 206 rfl
theorem q1431 : (Jvm.Cond.instanceMethod ({ cls := "ResourceLedger", name := "go", desc := "()V" } : Jvm.MethodName)) ∈ lw_all := lw_g (lw_at lw_m5 207 rfl) rfl
theorem q1432 : (Jvm.Cond.codeWith ({ cls := "ResourceLedger", name := "go", desc := "()V" } : Jvm.MethodName) prog_1_method_50_code (2 : Nat) (Option.none : Option Jvm.ClassFile.FieldType) [((0 : Nat), (29 : Nat), (32 : Nat), (105 : Nat))]) ∈ lw_all := lw_g (lw_at lw_m5 208 rfl) rfl
theorem q1433 : (Jvm.Cond.methodLink "ResourceLedger" (749 : Nat) ({ cls := "ResourceLedger", name := "instruction", desc := "()V" } : Jvm.MethodName)) ∈ lw_all := lw_g (lw_at lw_m5 209 rfl) rfl
theorem q1434 : (Jvm.Cond.privateMethod ({ cls := "ResourceLedger", name := "instruction", desc := "()V" } : Jvm.MethodName)) ∈ lw_tbl := lw_at lw_m5 210 rfl
theorem q1435 : (Jvm.Cond.instanceMethod ({ cls := "ResourceLedger", name := "instruction", desc := "()V" } : Jvm.MethodName)) ∈ lw_all := lw_g (lw_at lw_m5 211 rfl) rfl
theorem q1436 : (Jvm.Cond.code ({ cls := "ResourceLedger", name := "instruction", desc := "()V" } : Jvm.MethodName) prog_1_method_45_code (5 : Nat) (Option.none : Option Jvm.ClassFile.FieldType)) ∈ lw_all := lw_g (lw_at lw_m5 212 rfl) rfl
theorem q1437 : (Jvm.Cond.methodLink "ResourceLedger" (625 : Nat) ({ cls := "ResourceLedger$Worker", name := "frame", desc := "()LResourceLedger$Frame;" } : Jvm.MethodName)) ∈ lw_all := lw_g (lw_at lw_m5 213 rfl) rfl
theorem q1441 : (Jvm.Cond.methodLink "ResourceLedger" (561 : Nat) ({ cls := "ResourceLedger", name := "pay", desc := "(I)V" } : Jvm.MethodName)) ∈ lw_all := lw_g (lw_at lw_m5 217 rfl) rfl
theorem q1442 : (Jvm.Cond.privateMethod ({ cls := "ResourceLedger", name := "pay", desc := "(I)V" } : Jvm.MethodName)) ∈ lw_tbl := lw_at lw_m5 218 rfl
theorem q1443 : (Jvm.Cond.instanceMethod ({ cls := "ResourceLedger", name := "pay", desc := "(I)V" } : Jvm.MethodName)) ∈ lw_all := lw_g (lw_at lw_m5 219 rfl) rfl
theorem q1444 : (Jvm.Cond.code ({ cls := "ResourceLedger", name := "pay", desc := "(I)V" } : Jvm.MethodName) prog_1_method_5_code (2 : Nat) (Option.none : Option Jvm.ClassFile.FieldType)) ∈ lw_all := lw_g (lw_at lw_m5 220 rfl) rfl
theorem q1445 : (Jvm.Cond.constantLong "ResourceLedger" (190 : Nat) (5 : Int64)) ∈ lw_all := lw_g (lw_at lw_m5 221 rfl) rfl
theorem q1446 : (Jvm.Cond.methodLink "ResourceLedger" (173 : Nat) ({ cls := "ResourceLedger", name := "stop", desc := "(IJ)V" } : Jvm.MethodName)) ∈ lw_all := lw_g (lw_at lw_m5 222 rfl) rfl
theorem q1447 : (Jvm.Cond.privateMethod ({ cls := "ResourceLedger", name := "stop", desc := "(IJ)V" } : Jvm.MethodName)) ∈ lw_tbl := lw_at lw_m5 223 rfl
theorem q1448 : (Jvm.Cond.instanceMethod ({ cls := "ResourceLedger", name := "stop", desc := "(IJ)V" } : Jvm.MethodName)) ∈ lw_all := lw_g (lw_at lw_m5 224 rfl) rfl
theorem q1449 : (Jvm.Cond.code ({ cls := "ResourceLedger", name := "stop", desc := "(IJ)V" } : Jvm.MethodName) prog_1_method_3_code (4 : Nat) (Option.none : Option Jvm.ClassFile.FieldType)) ∈ lw_all := lw_g (lw_at lw_m5 225 rfl) rfl
theorem q1450 : (Jvm.Cond.methodLink "ResourceLedger" (553 : Nat) ({ cls := "ResourceLedger", name := "dropTop", desc := "()V" } : Jvm.MethodName)) ∈ lw_all := lw_g (lw_at lw_m5 226 rfl) rfl
theorem q1451 : (Jvm.Cond.privateMethod ({ cls := "ResourceLedger", name := "dropTop", desc := "()V" } : Jvm.MethodName)) ∈ lw_tbl := lw_at lw_m5 227 rfl
theorem q1452 : (Jvm.Cond.instanceMethod ({ cls := "ResourceLedger", name := "dropTop", desc := "()V" } : Jvm.MethodName)) ∈ lw_all := lw_g (lw_at lw_m5 228 rfl) rfl
theorem q1453 : (Jvm.Cond.code ({ cls := "ResourceLedger", name := "dropTop", desc := "()V" } : Jvm.MethodName) prog_1_method_26_code (1 : Nat) (Option.none : Option Jvm.ClassFile.FieldType)) ∈ lw_all := lw_g (lw_at lw_m5 229 rfl) rfl
theorem q1454 : (Jvm.Cond.methodLink "ResourceLedger" (498 : Nat) ({ cls := "ResourceLedger", name := "pop", desc := "()LResourceLedger$Value;" } : Jvm.MethodName)) ∈ lw_all := lw_g (lw_at lw_m5 230 rfl) rfl
theorem q1455 : (Jvm.Cond.privateMethod ({ cls := "ResourceLedger", name := "pop", desc := "()LResourceLedger$Value;" } : Jvm.MethodName)) ∈ lw_tbl := lw_at lw_m5 231 rfl
theorem q1456 : (Jvm.Cond.instanceMethod ({ cls := "ResourceLedger", name := "pop", desc := "()LResourceLedger$Value;" } : Jvm.MethodName)) ∈ lw_all := lw_g (lw_at lw_m5 232 rfl) rfl
theorem q1457 : (Jvm.Cond.code ({ cls := "ResourceLedger", name := "pop", desc := "()LResourceLedger$Value;" } : Jvm.MethodName) prog_1_method_21_code (1 : Nat) (Option.some (Jvm.ClassFile.FieldType.object "ResourceLedger$Value"))) ∈ lw_all := lw_g (lw_at lw_m5 233 rfl) rfl
theorem q1458 : (Jvm.Cond.methodLink "ResourceLedger" (502 : Nat) ({ cls := "ResourceLedger$Pool", name := "drop", desc := "(LResourceLedger$Pool;LResourceLedger$Value;)V" } : Jvm.MethodName)) ∈ lw_all := lw_g (lw_at lw_m5 234 rfl) rfl
theorem q1462 : (Jvm.Cond.methodLink "ResourceLedger" (680 : Nat) ({ cls := "ResourceLedger", name := "end", desc := "()V" } : Jvm.MethodName)) ∈ lw_all := lw_g (lw_at lw_m5 238 rfl) rfl
theorem q1463 : (Jvm.Cond.privateMethod ({ cls := "ResourceLedger", name := "end", desc := "()V" } : Jvm.MethodName)) ∈ lw_tbl := lw_at lw_m5 239 rfl
theorem q1464 : (Jvm.Cond.instanceMethod ({ cls := "ResourceLedger", name := "end", desc := "()V" } : Jvm.MethodName)) ∈ lw_all := lw_g (lw_at lw_m6 0 rfl) rfl
theorem q1465 : (Jvm.Cond.code ({ cls := "ResourceLedger", name := "end", desc := "()V" } : Jvm.MethodName) prog_1_method_40_code (6 : Nat) (Option.none : Option Jvm.ClassFile.FieldType)) ∈ lw_all := lw_g (lw_at lw_m6 1 rfl) rfl
theorem q1466 : (Jvm.Cond.methodLink "ResourceLedger" (490 : Nat) ({ cls := "ResourceLedger", name := "push", desc := "(LResourceLedger$Value;)V" } : Jvm.MethodName)) ∈ lw_all := lw_g (lw_at lw_m6 2 rfl) rfl
theorem q1467 : (Jvm.Cond.privateMethod ({ cls := "ResourceLedger", name := "push", desc := "(LResourceLedger$Value;)V" } : Jvm.MethodName)) ∈ lw_tbl := lw_at lw_m6 3 rfl
theorem q1468 : (Jvm.Cond.instanceMethod ({ cls := "ResourceLedger", name := "push", desc := "(LResourceLedger$Value;)V" } : Jvm.MethodName)) ∈ lw_all := lw_g (lw_at lw_m6 4 rfl) rfl
theorem q1469 : (Jvm.Cond.code ({ cls := "ResourceLedger", name := "push", desc := "(LResourceLedger$Value;)V" } : Jvm.MethodName) prog_1_method_23_code (2 : Nat) (Option.none : Option Jvm.ClassFile.FieldType)) ∈ lw_all := lw_g (lw_at lw_m6 5 rfl) rfl
theorem q1470 : (Jvm.Cond.methodLink "ResourceLedger" (641 : Nat) ({ cls := "ResourceLedger", name := "settlePlaces", desc := "()V" } : Jvm.MethodName)) ∈ lw_all := lw_g (lw_at lw_m6 6 rfl) rfl
theorem q1471 : (Jvm.Cond.privateMethod ({ cls := "ResourceLedger", name := "settlePlaces", desc := "()V" } : Jvm.MethodName)) ∈ lw_tbl := lw_at lw_m6 7 rfl
theorem q1472 : (Jvm.Cond.instanceMethod ({ cls := "ResourceLedger", name := "settlePlaces", desc := "()V" } : Jvm.MethodName)) ∈ lw_all := lw_g (lw_at lw_m6 8 rfl) rfl
theorem q1473 : (Jvm.Cond.code ({ cls := "ResourceLedger", name := "settlePlaces", desc := "()V" } : Jvm.MethodName) prog_1_method_41_code (5 : Nat) (Option.none : Option Jvm.ClassFile.FieldType)) ∈ lw_all := lw_g (lw_at lw_m6 9 rfl) rfl
theorem q1474 : (Jvm.Cond.methodLink "ResourceLedger" (558 : Nat) ({ cls := "ResourceLedger$Value", name := "size", desc := "(LResourceLedger$Value;)I" } : Jvm.MethodName)) ∈ lw_all := lw_g (lw_at lw_m6 10 rfl) rfl
theorem q1478 : (Jvm.Cond.methodLink "ResourceLedger" (208 : Nat) ({ cls := "ResourceLedger", name := "need", desc := "(ZI)V" } : Jvm.MethodName)) ∈ lw_all := lw_g (lw_at lw_m6 14 rfl) rfl
theorem q1479 : (Jvm.Cond.privateMethod ({ cls := "ResourceLedger", name := "need", desc := "(ZI)V" } : Jvm.MethodName)) ∈ lw_tbl := lw_at lw_m6 15 rfl
theorem q1480 : (Jvm.Cond.instanceMethod ({ cls := "ResourceLedger", name := "need", desc := "(ZI)V" } : Jvm.MethodName)) ∈ lw_all := lw_g (lw_at lw_m6 16 rfl) rfl
theorem q1481 : (Jvm.Cond.code ({ cls := "ResourceLedger", name := "need", desc := "(ZI)V" } : Jvm.MethodName) prog_1_method_4_code (3 : Nat) (Option.none : Option Jvm.ClassFile.FieldType)) ∈ lw_all := lw_g (lw_at lw_m6 17 rfl) rfl
theorem q1482 : (Jvm.Cond.methodLink "ResourceLedger" (273 : Nat) ({ cls := "ResourceLedger", name := "ask", desc := "(IJIZ)LResourceLedger$Entry;" } : Jvm.MethodName)) ∈ lw_all := lw_g (lw_at lw_m6 18 rfl) rfl
theorem q1483 : (Jvm.Cond.privateMethod ({ cls := "ResourceLedger", name := "ask", desc := "(IJIZ)LResourceLedger$Entry;" } : Jvm.MethodName)) ∈ lw_tbl := lw_at lw_m6 19 rfl
theorem q1484 : (Jvm.Cond.instanceMethod ({ cls := "ResourceLedger", name := "ask", desc := "(IJIZ)LResourceLedger$Entry;" } : Jvm.MethodName)) ∈ lw_all := lw_g (lw_at lw_m6 20 rfl) rfl
theorem q1485 : (Jvm.Cond.code ({ cls := "ResourceLedger", name := "ask", desc := "(IJIZ)LResourceLedger$Entry;" } : Jvm.MethodName) prog_1_method_7_code (9 : Nat) (Option.some (Jvm.ClassFile.FieldType.object "ResourceLedger$Entry"))) ∈ lw_all := lw_g (lw_at lw_m6 21 rfl) rfl
theorem q1486 : (Jvm.Cond.methodLink "ResourceLedger" (198 : Nat) ({ cls := "ResourceLedger$Entries", name := "find", desc := "(IJI)LResourceLedger$Entry;" } : Jvm.MethodName)) ∈ lw_all := lw_g (lw_at lw_m6 22 rfl) rfl
theorem q1494 : (Jvm.Cond.methodLink "ResourceLedger" (212 : Nat) ({ cls := "ResourceLedger", name := "before", desc := "(IIJI)I" } : Jvm.MethodName)) ∈ lw_all := lw_g (lw_at lw_m6 30 rfl) rfl
theorem q1495 : (Jvm.Cond.privateMethod ({ cls := "ResourceLedger", name := "before", desc := "(IIJI)I" } : Jvm.MethodName)) ∈ lw_tbl := lw_at lw_m6 31 rfl
theorem q1496 : (Jvm.Cond.instanceMethod ({ cls := "ResourceLedger", name := "before", desc := "(IIJI)I" } : Jvm.MethodName)) ∈ lw_all := lw_g (lw_at lw_m6 32 rfl) rfl
theorem q1497 : (Jvm.Cond.code ({ cls := "ResourceLedger", name := "before", desc := "(IIJI)I" } : Jvm.MethodName) prog_1_method_6_code (7 : Nat) (Option.some Jvm.ClassFile.FieldType.int)) ∈ lw_all := lw_g (lw_at lw_m6 33 rfl) rfl
theorem q1498 : (Jvm.Cond.methodLink "ResourceLedger" (229 : Nat) ({ cls := "ResourceLedger$Entry", name := "place", desc := "(IJI)V" } : Jvm.MethodName)) ∈ lw_all := lw_g (lw_at lw_m6 34 rfl) rfl
theorem q1502 : (Jvm.Cond.methodLink "ResourceLedger" (256 : Nat) ({ cls := "ResourceLedger$Pool", name := "copy", desc := "(LResourceLedger$Pool;LResourceLedger$Value;)LResourceLedger$Value;" } : Jvm.MethodName)) ∈ lw_all := lw_g (lw_at lw_m6 38 rfl) rfl
theorem q1517 : (Jvm.Cond.fieldLinkNest "ResourceLedger" (510 : Nat) "ResourceLedger$Value" "kind" "I" "ResourceLedger") ∈ lw_tbl := lw_at lw_m6 53 rfl
theorem q1520 : (Jvm.Cond.fieldLinkNest "ResourceLedger" (513 : Nat) "ResourceLedger$Value" "high" "J" "ResourceLedger") ∈ lw_tbl := lw_at lw_m6 56 rfl
theorem q1523 : (Jvm.Cond.fieldLinkNest "ResourceLedger" (516 : Nat) "ResourceLedger$Value" "low" "J" "ResourceLedger") ∈ lw_tbl := lw_at lw_m6 59 rfl
theorem q1526 : (Jvm.Cond.fieldLinkNest "ResourceLedger" (604 : Nat) "ResourceLedger$Value" "first" "LResourceLedger$Value;" "ResourceLedger") ∈ lw_tbl := lw_at lw_m6 62 rfl
theorem q1529 : (Jvm.Cond.fieldLinkNest "ResourceLedger" (601 : Nat) "ResourceLedger$Value" "next" "LResourceLedger$Value;" "ResourceLedger") ∈ lw_tbl := lw_at lw_m6 65 rfl
theorem q1532 : (Jvm.Cond.fieldLinkNest "ResourceLedger" (606 : Nat) "ResourceLedger$Value" "count" "I" "ResourceLedger") ∈ lw_tbl := lw_at lw_m6 68 rfl
theorem q1534 : (Jvm.Cond.fieldLinkNest "ResourceLedger" (587 : Nat) "ResourceLedger$Value" "target" "LResourceLedger$Value;" "ResourceLedger") ∈ lw_tbl := lw_at lw_m6 70 rfl
theorem q1551 : (Jvm.Cond.methodLink "ResourceLedger" (266 : Nat) ({ cls := "ResourceLedger", name := "modulesThere", desc := "()I" } : Jvm.MethodName)) ∈ lw_all := lw_g (lw_at lw_m6 87 rfl) rfl
theorem q1552 : (Jvm.Cond.privateMethod ({ cls := "ResourceLedger", name := "modulesThere", desc := "()I" } : Jvm.MethodName)) ∈ lw_tbl := lw_at lw_m6 88 rfl
theorem q1553 : (Jvm.Cond.instanceMethod ({ cls := "ResourceLedger", name := "modulesThere", desc := "()I" } : Jvm.MethodName)) ∈ lw_all := lw_g (lw_at lw_m6 89 rfl) rfl
theorem q1554 : (Jvm.Cond.code ({ cls := "ResourceLedger", name := "modulesThere", desc := "()I" } : Jvm.MethodName) prog_1_method_8_code (3 : Nat) (Option.some Jvm.ClassFile.FieldType.int)) ∈ lw_all := lw_g (lw_at lw_m6 90 rfl) rfl
theorem q1555 : (Jvm.Cond.constantLong "ResourceLedger" (407 : Nat) (256 : Int64)) ∈ lw_all := lw_g (lw_at lw_m6 91 rfl) rfl
theorem q1556 : (Jvm.Cond.constantLong "ResourceLedger" (409 : Nat) (-1 : Int64)) ∈ lw_all := lw_g (lw_at lw_m6 92 rfl) rfl
theorem q1557 : (Jvm.Cond.methodLink "ResourceLedger" (681 : Nat) ({ cls := "ResourceLedger", name := "branch", desc := "(II)V" } : Jvm.MethodName)) ∈ lw_all := lw_g (lw_at lw_m6 93 rfl) rfl
theorem q1558 : (Jvm.Cond.privateMethod ({ cls := "ResourceLedger", name := "branch", desc := "(II)V" } : Jvm.MethodName)) ∈ lw_tbl := lw_at lw_m6 94 rfl
theorem q1559 : (Jvm.Cond.instanceMethod ({ cls := "ResourceLedger", name := "branch", desc := "(II)V" } : Jvm.MethodName)) ∈ lw_all := lw_g (lw_at lw_m6 95 rfl) rfl
theorem q1560 : (Jvm.Cond.code ({ cls := "ResourceLedger", name := "branch", desc := "(II)V" } : Jvm.MethodName) prog_1_method_46_code (4 : Nat) (Option.none : Option Jvm.ClassFile.FieldType)) ∈ lw_all := lw_g (lw_at lw_m6 96 rfl) rfl
theorem q1561 : (Jvm.Cond.methodLink "ResourceLedger" (506 : Nat) ({ cls := "ResourceLedger", name := "top", desc := "(I)LResourceLedger$Value;" } : Jvm.MethodName)) ∈ lw_all := lw_g (lw_at lw_m6 97 rfl) rfl
theorem q1562 : (Jvm.Cond.privateMethod ({ cls := "ResourceLedger", name := "top", desc := "(I)LResourceLedger$Value;" } : Jvm.MethodName)) ∈ lw_tbl := lw_at lw_m6 98 rfl
theorem q1563 : (Jvm.Cond.instanceMethod ({ cls := "ResourceLedger", name := "top", desc := "(I)LResourceLedger$Value;" } : Jvm.MethodName)) ∈ lw_all := lw_g (lw_at lw_m6 99 rfl) rfl
theorem q1564 : (Jvm.Cond.code ({ cls := "ResourceLedger", name := "top", desc := "(I)LResourceLedger$Value;" } : Jvm.MethodName) prog_1_method_22_code (2 : Nat) (Option.some (Jvm.ClassFile.FieldType.object "ResourceLedger$Value"))) ∈ lw_all := lw_g (lw_at lw_m6 100 rfl) rfl
theorem q1565 : (Jvm.Cond.methodLink "ResourceLedger" (687 : Nat) ({ cls := "ResourceLedger", name := "constant", desc := "(IJJ)V" } : Jvm.MethodName)) ∈ lw_all := lw_g (lw_at lw_m6 101 rfl) rfl
theorem q1566 : (Jvm.Cond.privateMethod ({ cls := "ResourceLedger", name := "constant", desc := "(IJJ)V" } : Jvm.MethodName)) ∈ lw_tbl := lw_at lw_m6 102 rfl
theorem q1567 : (Jvm.Cond.instanceMethod ({ cls := "ResourceLedger", name := "constant", desc := "(IJJ)V" } : Jvm.MethodName)) ∈ lw_all := lw_g (lw_at lw_m6 103 rfl) rfl
theorem q1568 : (Jvm.Cond.code ({ cls := "ResourceLedger", name := "constant", desc := "(IJJ)V" } : Jvm.MethodName) prog_1_method_31_code (6 : Nat) (Option.none : Option Jvm.ClassFile.FieldType)) ∈ lw_all := lw_g (lw_at lw_m6 104 rfl) rfl
theorem q1569 : (Jvm.Cond.constantLong "ResourceLedger" (281 : Nat) (2 : Int64)) ∈ lw_all := lw_g (lw_at lw_m6 105 rfl) rfl
theorem q1570 : (Jvm.Cond.methodLink "ResourceLedger" (494 : Nat) ({ cls := "ResourceLedger", name := "pushNumber", desc := "(JJJ)V" } : Jvm.MethodName)) ∈ lw_all := lw_g (lw_at lw_m6 106 rfl) rfl
theorem q1571 : (Jvm.Cond.privateMethod ({ cls := "ResourceLedger", name := "pushNumber", desc := "(JJJ)V" } : Jvm.MethodName)) ∈ lw_tbl := lw_at lw_m6 107 rfl
theorem q1572 : (Jvm.Cond.instanceMethod ({ cls := "ResourceLedger", name := "pushNumber", desc := "(JJJ)V" } : Jvm.MethodName)) ∈ lw_all := lw_g (lw_at lw_m6 108 rfl) rfl
theorem q1573 : (Jvm.Cond.code ({ cls := "ResourceLedger", name := "pushNumber", desc := "(JJJ)V" } : Jvm.MethodName) prog_1_method_24_code (7 : Nat) (Option.none : Option Jvm.ClassFile.FieldType)) ∈ lw_all := lw_g (lw_at lw_m6 109 rfl) rfl
theorem q1574 : (Jvm.Cond.methodLink "ResourceLedger" (365 : Nat) ({ cls := "ResourceLedger$Pool", name := "number", desc := "(JJJ)LResourceLedger$Value;" } : Jvm.MethodName)) ∈ lw_all := lw_g (lw_at lw_m6 110 rfl) rfl
theorem q1578 : (Jvm.Cond.constantLong "ResourceLedger" (283 : Nat) (3 : Int64)) ∈ lw_all := lw_g (lw_at lw_m6 114 rfl) rfl
theorem q1579 : (Jvm.Cond.constantLong "ResourceLedger" (300 : Nat) (4 : Int64)) ∈ lw_all := lw_g (lw_at lw_m6 115 rfl) rfl
theorem q1580 : (Jvm.Cond.methodLink "ResourceLedger" (572 : Nat) ({ cls := "ResourceLedger", name := "pushTruth", desc := "(Z)V" } : Jvm.MethodName)) ∈ lw_all := lw_g (lw_at lw_m6 116 rfl) rfl
theorem q1581 : (Jvm.Cond.privateMethod ({ cls := "ResourceLedger", name := "pushTruth", desc := "(Z)V" } : Jvm.MethodName)) ∈ lw_tbl := lw_at lw_m6 117 rfl
theorem q1582 : (Jvm.Cond.instanceMethod ({ cls := "ResourceLedger", name := "pushTruth", desc := "(Z)V" } : Jvm.MethodName)) ∈ lw_all := lw_g (lw_at lw_m6 118 rfl) rfl
theorem q1583 : (Jvm.Cond.code ({ cls := "ResourceLedger", name := "pushTruth", desc := "(Z)V" } : Jvm.MethodName) prog_1_method_25_code (2 : Nat) (Option.none : Option Jvm.ClassFile.FieldType)) ∈ lw_all := lw_g (lw_at lw_m6 119 rfl) rfl
theorem q1584 : (Jvm.Cond.methodLink "ResourceLedger" (691 : Nat) ({ cls := "ResourceLedger", name := "useLocal", desc := "(II)V" } : Jvm.MethodName)) ∈ lw_all := lw_g (lw_at lw_m6 120 rfl) rfl
theorem q1585 : (Jvm.Cond.privateMethod ({ cls := "ResourceLedger", name := "useLocal", desc := "(II)V" } : Jvm.MethodName)) ∈ lw_tbl := lw_at lw_m6 121 rfl
theorem q1586 : (Jvm.Cond.instanceMethod ({ cls := "ResourceLedger", name := "useLocal", desc := "(II)V" } : Jvm.MethodName)) ∈ lw_all := lw_g (lw_at lw_m6 122 rfl) rfl
theorem q1587 : (Jvm.Cond.code ({ cls := "ResourceLedger", name := "useLocal", desc := "(II)V" } : Jvm.MethodName) prog_1_method_32_code (5 : Nat) (Option.none : Option Jvm.ClassFile.FieldType)) ∈ lw_all := lw_g (lw_at lw_m6 123 rfl) rfl
theorem q1588 : (Jvm.Cond.methodLink "ResourceLedger" (584 : Nat) ({ cls := "ResourceLedger$Pool", name := "take", desc := "(I)LResourceLedger$Value;" } : Jvm.MethodName)) ∈ lw_all := lw_g (lw_at lw_m6 124 rfl) rfl
theorem q1589 : (Jvm.Cond.methodLink "ResourceLedger" (694 : Nat) ({ cls := "ResourceLedger", name := "reference", desc := "(II)V" } : Jvm.MethodName)) ∈ lw_all := lw_g (lw_at lw_m6 125 rfl) rfl
theorem q1590 : (Jvm.Cond.privateMethod ({ cls := "ResourceLedger", name := "reference", desc := "(II)V" } : Jvm.MethodName)) ∈ lw_tbl := lw_at lw_m6 126 rfl
theorem q1591 : (Jvm.Cond.instanceMethod ({ cls := "ResourceLedger", name := "reference", desc := "(II)V" } : Jvm.MethodName)) ∈ lw_all := lw_g (lw_at lw_m6 127 rfl) rfl
theorem q1592 : (Jvm.Cond.code ({ cls := "ResourceLedger", name := "reference", desc := "(II)V" } : Jvm.MethodName) prog_1_method_33_code (5 : Nat) (Option.none : Option Jvm.ClassFile.FieldType)) ∈ lw_all := lw_g (lw_at lw_m6 128 rfl) rfl
theorem q1593 : (Jvm.Cond.methodLink "ResourceLedger" (590 : Nat) ({ cls := "ResourceLedger$Value", name := "part", desc := "(I)LResourceLedger$Value;" } : Jvm.MethodName)) ∈ lw_all := lw_g (lw_at lw_m6 129 rfl) rfl
theorem q1597 : (Jvm.Cond.methodLink "ResourceLedger" (593 : Nat) ({ cls := "ResourceLedger$Pool", name := "replace", desc := "(LResourceLedger$Value;LResourceLedger$Value;)V" } : Jvm.MethodName)) ∈ lw_all := lw_g (lw_at lw_m6 133 rfl) rfl
theorem q1601 : (Jvm.Cond.methodLink "ResourceLedger" (697 : Nat) ({ cls := "ResourceLedger", name := "pack", desc := "(I)V" } : Jvm.MethodName)) ∈ lw_all := lw_g (lw_at lw_m6 137 rfl) rfl
theorem q1602 : (Jvm.Cond.privateMethod ({ cls := "ResourceLedger", name := "pack", desc := "(I)V" } : Jvm.MethodName)) ∈ lw_tbl := lw_at lw_m6 138 rfl
theorem q1603 : (Jvm.Cond.instanceMethod ({ cls := "ResourceLedger", name := "pack", desc := "(I)V" } : Jvm.MethodName)) ∈ lw_all := lw_g (lw_at lw_m6 139 rfl) rfl
theorem q1604 : (Jvm.Cond.code ({ cls := "ResourceLedger", name := "pack", desc := "(I)V" } : Jvm.MethodName) prog_1_method_34_code (5 : Nat) (Option.none : Option Jvm.ClassFile.FieldType)) ∈ lw_all := lw_g (lw_at lw_m6 140 rfl) rfl
theorem q1605 : (Jvm.Cond.methodLink "ResourceLedger" (597 : Nat) ({ cls := "ResourceLedger", name := "gather", desc := "(LResourceLedger$Value;I)V" } : Jvm.MethodName)) ∈ lw_all := lw_g (lw_at lw_m6 141 rfl) rfl
theorem q1606 : (Jvm.Cond.privateMethod ({ cls := "ResourceLedger", name := "gather", desc := "(LResourceLedger$Value;I)V" } : Jvm.MethodName)) ∈ lw_tbl := lw_at lw_m6 142 rfl
theorem q1607 : (Jvm.Cond.instanceMethod ({ cls := "ResourceLedger", name := "gather", desc := "(LResourceLedger$Value;I)V" } : Jvm.MethodName)) ∈ lw_all := lw_g (lw_at lw_m6 143 rfl) rfl
theorem q1608 : (Jvm.Cond.code ({ cls := "ResourceLedger", name := "gather", desc := "(LResourceLedger$Value;I)V" } : Jvm.MethodName) prog_1_method_35_code (6 : Nat) (Option.none : Option Jvm.ClassFile.FieldType)) ∈ lw_all := lw_g (lw_at lw_m6 144 rfl) rfl
theorem q1609 : (Jvm.Cond.methodLink "ResourceLedger" (700 : Nat) ({ cls := "ResourceLedger", name := "unpack", desc := "()V" } : Jvm.MethodName)) ∈ lw_all := lw_g (lw_at lw_m6 145 rfl) rfl
theorem q1610 : (Jvm.Cond.privateMethod ({ cls := "ResourceLedger", name := "unpack", desc := "()V" } : Jvm.MethodName)) ∈ lw_tbl := lw_at lw_m6 146 rfl
theorem q1611 : (Jvm.Cond.instanceMethod ({ cls := "ResourceLedger", name := "unpack", desc := "()V" } : Jvm.MethodName)) ∈ lw_all := lw_g (lw_at lw_m6 147 rfl) rfl
theorem q1612 : (Jvm.Cond.code ({ cls := "ResourceLedger", name := "unpack", desc := "()V" } : Jvm.MethodName) prog_1_method_36_code (4 : Nat) (Option.none : Option Jvm.ClassFile.FieldType)) ∈ lw_all := lw_g (lw_at lw_m6 148 rfl) rfl
theorem q1613 : (Jvm.Cond.methodLink "ResourceLedger" (703 : Nat) ({ cls := "ResourceLedger", name := "call", desc := "(I)V" } : Jvm.MethodName)) ∈ lw_all := lw_g (lw_at lw_m6 149 rfl) rfl
theorem q1614 : (Jvm.Cond.privateMethod ({ cls := "ResourceLedger", name := "call", desc := "(I)V" } : Jvm.MethodName)) ∈ lw_tbl := lw_at lw_m6 150 rfl
theorem q1615 : (Jvm.Cond.instanceMethod ({ cls := "ResourceLedger", name := "call", desc := "(I)V" } : Jvm.MethodName)) ∈ lw_all := lw_g (lw_at lw_m6 151 rfl) rfl
theorem q1616 : (Jvm.Cond.code ({ cls := "ResourceLedger", name := "call", desc := "(I)V" } : Jvm.MethodName) prog_1_method_37_code (9 : Nat) (Option.none : Option Jvm.ClassFile.FieldType)) ∈ lw_all := lw_g (lw_at lw_m6 152 rfl) rfl
theorem q1617 : (Jvm.Cond.methodLink "ResourceLedger" (607 : Nat) ({ cls := "ResourceLedger$Tables", name := "functionAt", desc := "(I)LResourceLedger$Function;" } : Jvm.MethodName)) ∈ lw_all := lw_g (lw_at lw_m6 153 rfl) rfl
theorem q1621 : (Jvm.Cond.methodLink "ResourceLedger" (297 : Nat) ({ cls := "ResourceLedger", name := "module", desc := "(IZ)LResourceLedger$Module;" } : Jvm.MethodName)) ∈ lw_all := lw_g (lw_at lw_m6 157 rfl) rfl
theorem q1622 : (Jvm.Cond.privateMethod ({ cls := "ResourceLedger", name := "module", desc := "(IZ)LResourceLedger$Module;" } : Jvm.MethodName)) ∈ lw_tbl := lw_at lw_m6 158 rfl
theorem q1623 : (Jvm.Cond.instanceMethod ({ cls := "ResourceLedger", name := "module", desc := "(IZ)LResourceLedger$Module;" } : Jvm.MethodName)) ∈ lw_all := lw_g (lw_at lw_m6 159 rfl) rfl
theorem q1624 : (Jvm.Cond.code ({ cls := "ResourceLedger", name := "module", desc := "(IZ)LResourceLedger$Module;" } : Jvm.MethodName) prog_1_method_9_code (4 : Nat) (Option.some (Jvm.ClassFile.FieldType.object "ResourceLedger$Module"))) ∈ lw_all := lw_g (lw_at lw_m6 160 rfl) rfl
theorem q1625 : (Jvm.Cond.methodLink "ResourceLedger" (611 : Nat) ({ cls := "ResourceLedger", name := "ofCoin", desc := "(I)V" } : Jvm.MethodName)) ∈ lw_all := lw_g (lw_at lw_m6 161 rfl) rfl
theorem q1626 : (Jvm.Cond.privateMethod ({ cls := "ResourceLedger", name := "ofCoin", desc := "(I)V" } : Jvm.MethodName)) ∈ lw_tbl := lw_at lw_m6 162 rfl
theorem q1627 : (Jvm.Cond.instanceMethod ({ cls := "ResourceLedger", name := "ofCoin", desc := "(I)V" } : Jvm.MethodName)) ∈ lw_all := lw_g (lw_at lw_m6 163 rfl) rfl
theorem q1628 : (Jvm.Cond.code ({ cls := "ResourceLedger", name := "ofCoin", desc := "(I)V" } : Jvm.MethodName) prog_1_method_38_code (10 : Nat) (Option.none : Option Jvm.ClassFile.FieldType)) ∈ lw_all := lw_g (lw_at lw_m6 164 rfl) rfl
theorem q1629 : (Jvm.Cond.methodLink "ResourceLedger" (614 : Nat) ({ cls := "ResourceLedger", name := "coinOf", desc := "(J)V" } : Jvm.MethodName)) ∈ lw_all := lw_g (lw_at lw_m6 165 rfl) rfl
theorem q1630 : (Jvm.Cond.privateMethod ({ cls := "ResourceLedger", name := "coinOf", desc := "(J)V" } : Jvm.MethodName)) ∈ lw_tbl := lw_at lw_m6 166 rfl
theorem q1631 : (Jvm.Cond.instanceMethod ({ cls := "ResourceLedger", name := "coinOf", desc := "(J)V" } : Jvm.MethodName)) ∈ lw_all := lw_g (lw_at lw_m6 167 rfl) rfl
theorem q1632 : (Jvm.Cond.code ({ cls := "ResourceLedger", name := "coinOf", desc := "(J)V" } : Jvm.MethodName) prog_1_method_39_code (4 : Nat) (Option.none : Option Jvm.ClassFile.FieldType)) ∈ lw_all := lw_g (lw_at lw_m6 168 rfl) rfl
theorem q1633 : (Jvm.Cond.methodLink "ResourceLedger" (623 : Nat) ({ cls := "ResourceLedger$Value", name := "add", desc := "(LResourceLedger$Value;)V" } : Jvm.MethodName)) ∈ lw_all := lw_g (lw_at lw_m6 169 rfl) rfl
theorem q1638 : (Jvm.Cond.methodLink "ResourceLedger" (617 : Nat) ({ cls := "java/lang/Long", name := "compareUnsigned", desc := "(JJ)I" } : Jvm.MethodName)) ∈ lw_all := lw_g (lw_at lw_m6 174 rfl) rfl
theorem q1645 : (Jvm.Cond.methodLink "ResourceLedger" (348 : Nat) ({ cls := "ResourceLedger", name := "enter", desc := "(LResourceLedger$Module;LResourceLedger$Function;)LResourceLedger$Frame;" } : Jvm.MethodName)) ∈ lw_all := lw_g (lw_at lw_m6 181 rfl) rfl
theorem q1646 : (Jvm.Cond.privateMethod ({ cls := "ResourceLedger", name := "enter", desc := "(LResourceLedger$Module;LResourceLedger$Function;)LResourceLedger$Frame;" } : Jvm.MethodName)) ∈ lw_tbl := lw_at lw_m6 182 rfl
theorem q1647 : (Jvm.Cond.instanceMethod ({ cls := "ResourceLedger", name := "enter", desc := "(LResourceLedger$Module;LResourceLedger$Function;)LResourceLedger$Frame;" } : Jvm.MethodName)) ∈ lw_all := lw_g (lw_at lw_m6 183 rfl) rfl
theorem q1648 : (Jvm.Cond.code ({ cls := "ResourceLedger", name := "enter", desc := "(LResourceLedger$Module;LResourceLedger$Function;)LResourceLedger$Frame;" } : Jvm.MethodName) prog_1_method_11_code (5 : Nat) (Option.some (Jvm.ClassFile.FieldType.object "ResourceLedger$Frame"))) ∈ lw_all := lw_g (lw_at lw_m6 184 rfl) rfl
theorem q1649 : (Jvm.Cond.methodLink "ResourceLedger" (706 : Nat) ({ cls := "ResourceLedger", name := "number", desc := "(I)V" } : Jvm.MethodName)) ∈ lw_all := lw_g (lw_at lw_m6 185 rfl) rfl
theorem q1650 : (Jvm.Cond.privateMethod ({ cls := "ResourceLedger", name := "number", desc := "(I)V" } : Jvm.MethodName)) ∈ lw_tbl := lw_at lw_m6 186 rfl
theorem q1651 : (Jvm.Cond.instanceMethod ({ cls := "ResourceLedger", name := "number", desc := "(I)V" } : Jvm.MethodName)) ∈ lw_all := lw_g (lw_at lw_m6 187 rfl) rfl
theorem q1652 : (Jvm.Cond.code ({ cls := "ResourceLedger", name := "number", desc := "(I)V" } : Jvm.MethodName) prog_1_method_30_code (2 : Nat) (Option.none : Option Jvm.ClassFile.FieldType)) ∈ lw_all := lw_g (lw_at lw_m6 188 rfl) rfl
theorem q1653 : (Jvm.Cond.methodLink "ResourceLedger" (576 : Nat) ({ cls := "ResourceLedger", name := "reckon", desc := "(I)V" } : Jvm.MethodName)) ∈ lw_all := lw_g (lw_at lw_m6 189 rfl) rfl
theorem q1654 : (Jvm.Cond.privateMethod ({ cls := "ResourceLedger", name := "reckon", desc := "(I)V" } : Jvm.MethodName)) ∈ lw_tbl := lw_at lw_m6 190 rfl
theorem q1655 : (Jvm.Cond.instanceMethod ({ cls := "ResourceLedger", name := "reckon", desc := "(I)V" } : Jvm.MethodName)) ∈ lw_all := lw_g (lw_at lw_m6 191 rfl) rfl
theorem q1656 : (Jvm.Cond.code ({ cls := "ResourceLedger", name := "reckon", desc := "(I)V" } : Jvm.MethodName) prog_1_method_27_code (5 : Nat) (Option.none : Option Jvm.ClassFile.FieldType)) ∈ lw_all := lw_g (lw_at lw_m6 192 rfl) rfl
theorem q1657 : (Jvm.Cond.methodLink "ResourceLedger" (519 : Nat) ({ cls := "ResourceLedger$Wide", name := "set", desc := "(JJ)V" } : Jvm.MethodName)) ∈ lw_all := lw_g (lw_at lw_m6 193 rfl) rfl
theorem q1661 : (Jvm.Cond.methodLink "ResourceLedger" (523 : Nat) ({ cls := "ResourceLedger$Wide", name := "add", desc := "(JJ)V" } : Jvm.MethodName)) ∈ lw_all := lw_g (lw_at lw_m6 197 rfl) rfl
theorem q1669 : (Jvm.Cond.methodLink "ResourceLedger" (526 : Nat) ({ cls := "ResourceLedger$Wide", name := "subtract", desc := "(JJ)V" } : Jvm.MethodName)) ∈ lw_all := lw_g (lw_at lw_m6 205 rfl) rfl
theorem q1676 : (Jvm.Cond.methodLink "ResourceLedger" (529 : Nat) ({ cls := "ResourceLedger$Wide", name := "multiply", desc := "(JJ)V" } : Jvm.MethodName)) ∈ lw_all := lw_g (lw_at lw_m6 212 rfl) rfl
theorem q1687 : (Jvm.Cond.methodLink "ResourceLedger" (532 : Nat) ({ cls := "ResourceLedger$Wide", name := "divide", desc := "(JJZ)V" } : Jvm.MethodName)) ∈ lw_all := lw_g (lw_at lw_m6 223 rfl) rfl
theorem q1692 : (Jvm.Cond.methodLink "ResourceLedger" (536 : Nat) ({ cls := "ResourceLedger$Wide", name := "bits", desc := "(J)I" } : Jvm.MethodName)) ∈ lw_all := lw_g (lw_at lw_m6 228 rfl) rfl
theorem q1698 : (Jvm.Cond.methodLink "ResourceLedger" (539 : Nat) ({ cls := "ResourceLedger$Wide", name := "up", desc := "(I)V" } : Jvm.MethodName)) ∈ lw_all := lw_g (lw_at lw_m6 234 rfl) rfl
theorem q1702 : (Jvm.Cond.methodLink "ResourceLedger" (542 : Nat) ({ cls := "ResourceLedger$Wide", name := "down", desc := "(I)V" } : Jvm.MethodName)) ∈ lw_all := lw_g (lw_at lw_m6 238 rfl) rfl
theorem q1706 : (Jvm.Cond.methodLink "ResourceLedger" (545 : Nat) ({ cls := "ResourceLedger$Wide", name := "cut", desc := "(J)V" } : Jvm.MethodName)) ∈ lw_all := lw_g (lw_at lw_m7 2 rfl) rfl
theorem q1711 : (Jvm.Cond.methodLink "ResourceLedger" (549 : Nat) ({ cls := "ResourceLedger$Wide", name := "fits", desc := "(J)Z" } : Jvm.MethodName)) ∈ lw_all := lw_g (lw_at lw_m7 7 rfl) rfl
theorem q1715 : (Jvm.Cond.methodLink "ResourceLedger" (579 : Nat) ({ cls := "ResourceLedger", name := "compare", desc := "(I)V" } : Jvm.MethodName)) ∈ lw_all := lw_g (lw_at lw_m7 11 rfl) rfl
theorem q1716 : (Jvm.Cond.privateMethod ({ cls := "ResourceLedger", name := "compare", desc := "(I)V" } : Jvm.MethodName)) ∈ lw_tbl := lw_at lw_m7 12 rfl
theorem q1717 : (Jvm.Cond.instanceMethod ({ cls := "ResourceLedger", name := "compare", desc := "(I)V" } : Jvm.MethodName)) ∈ lw_all := lw_g (lw_at lw_m7 13 rfl) rfl
theorem q1718 : (Jvm.Cond.code ({ cls := "ResourceLedger", name := "compare", desc := "(I)V" } : Jvm.MethodName) prog_1_method_28_code (6 : Nat) (Option.none : Option Jvm.ClassFile.FieldType)) ∈ lw_all := lw_g (lw_at lw_m7 14 rfl) rfl
theorem q1719 : (Jvm.Cond.methodLink "ResourceLedger" (564 : Nat) ({ cls := "ResourceLedger$Wide", name := "compare", desc := "(JJJJ)I" } : Jvm.MethodName)) ∈ lw_all := lw_g (lw_at lw_m7 15 rfl) rfl
theorem q1720 : (Jvm.Cond.methodLink "ResourceLedger" (568 : Nat) ({ cls := "ResourceLedger$Value", name := "isSame", desc := "(LResourceLedger$Value;LResourceLedger$Value;)Z" } : Jvm.MethodName)) ∈ lw_all := lw_g (lw_at lw_m7 16 rfl) rfl
theorem q1724 : (Jvm.Cond.methodLink "ResourceLedger" (581 : Nat) ({ cls := "ResourceLedger", name := "cast", desc := "(J)V" } : Jvm.MethodName)) ∈ lw_all := lw_g (lw_at lw_m7 20 rfl) rfl
theorem q1725 : (Jvm.Cond.privateMethod ({ cls := "ResourceLedger", name := "cast", desc := "(J)V" } : Jvm.MethodName)) ∈ lw_tbl := lw_at lw_m7 21 rfl
theorem q1726 : (Jvm.Cond.instanceMethod ({ cls := "ResourceLedger", name := "cast", desc := "(J)V" } : Jvm.MethodName)) ∈ lw_all := lw_g (lw_at lw_m7 22 rfl) rfl
theorem q1727 : (Jvm.Cond.code ({ cls := "ResourceLedger", name := "cast", desc := "(J)V" } : Jvm.MethodName) prog_1_method_29_code (4 : Nat) (Option.none : Option Jvm.ClassFile.FieldType)) ∈ lw_all := lw_g (lw_at lw_m7 23 rfl) rfl
theorem q1728 : (Jvm.Cond.methodLink "ResourceLedger" (708 : Nat) ({ cls := "ResourceLedger", name := "resource", desc := "(II)V" } : Jvm.MethodName)) ∈ lw_all := lw_g (lw_at lw_m7 24 rfl) rfl
theorem q1729 : (Jvm.Cond.privateMethod ({ cls := "ResourceLedger", name := "resource", desc := "(II)V" } : Jvm.MethodName)) ∈ lw_tbl := lw_at lw_m7 25 rfl
theorem q1730 : (Jvm.Cond.instanceMethod ({ cls := "ResourceLedger", name := "resource", desc := "(II)V" } : Jvm.MethodName)) ∈ lw_all := lw_g (lw_at lw_m7 26 rfl) rfl
theorem q1731 : (Jvm.Cond.code ({ cls := "ResourceLedger", name := "resource", desc := "(II)V" } : Jvm.MethodName) prog_1_method_42_code (7 : Nat) (Option.none : Option Jvm.ClassFile.FieldType)) ∈ lw_all := lw_g (lw_at lw_m7 27 rfl) rfl
theorem q1732 : (Jvm.Cond.methodLink "ResourceLedger" (711 : Nat) ({ cls := "ResourceLedger", name := "vector", desc := "(II)V" } : Jvm.MethodName)) ∈ lw_all := lw_g (lw_at lw_m7 28 rfl) rfl
theorem q1733 : (Jvm.Cond.privateMethod ({ cls := "ResourceLedger", name := "vector", desc := "(II)V" } : Jvm.MethodName)) ∈ lw_tbl := lw_at lw_m7 29 rfl
theorem q1734 : (Jvm.Cond.instanceMethod ({ cls := "ResourceLedger", name := "vector", desc := "(II)V" } : Jvm.MethodName)) ∈ lw_all := lw_g (lw_at lw_m7 30 rfl) rfl
theorem q1735 : (Jvm.Cond.code ({ cls := "ResourceLedger", name := "vector", desc := "(II)V" } : Jvm.MethodName) prog_1_method_43_code (17 : Nat) (Option.none : Option Jvm.ClassFile.FieldType)) ∈ lw_all := lw_g (lw_at lw_m7 31 rfl) rfl
theorem q1736 : (Jvm.Cond.methodLink "ResourceLedger" (644 : Nat) ({ cls := "ResourceLedger$Value", name := "removeLast", desc := "()LResourceLedger$Value;" } : Jvm.MethodName)) ∈ lw_all := lw_g (lw_at lw_m7 32 rfl) rfl
theorem q1740 : (Jvm.Cond.methodLink "ResourceLedger" (647 : Nat) ({ cls := "ResourceLedger$Pool", name := "swap", desc := "(LResourceLedger$Value;LResourceLedger$Value;)V" } : Jvm.MethodName)) ∈ lw_all := lw_g (lw_at lw_m7 36 rfl) rfl
theorem q1744 : (Jvm.Cond.methodLink "ResourceLedger" (714 : Nat) ({ cls := "ResourceLedger", name := "bytes", desc := "()V" } : Jvm.MethodName)) ∈ lw_all := lw_g (lw_at lw_m7 40 rfl) rfl
theorem q1745 : (Jvm.Cond.privateMethod ({ cls := "ResourceLedger", name := "bytes", desc := "()V" } : Jvm.MethodName)) ∈ lw_tbl := lw_at lw_m7 41 rfl
theorem q1746 : (Jvm.Cond.instanceMethod ({ cls := "ResourceLedger", name := "bytes", desc := "()V" } : Jvm.MethodName)) ∈ lw_all := lw_g (lw_at lw_m7 42 rfl) rfl
theorem q1747 : (Jvm.Cond.code ({ cls := "ResourceLedger", name := "bytes", desc := "()V" } : Jvm.MethodName) prog_1_method_44_code (7 : Nat) (Option.none : Option Jvm.ClassFile.FieldType)) ∈ lw_all := lw_g (lw_at lw_m7 43 rfl) rfl
theorem q1748 : (Jvm.Cond.methodLink "ResourceLedger" (654 : Nat) ({ cls := "ResourceLedger$HashTree$Digest", name := "begin", desc := "()V" } : Jvm.MethodName)) ∈ lw_all := lw_g (lw_at lw_m7 44 rfl) rfl
theorem q1760 : (Jvm.Cond.methodLink "ResourceLedger" (659 : Nat) ({ cls := "ResourceLedger$HashTree$Digest", name := "add", desc := "(I)V" } : Jvm.MethodName)) ∈ lw_all := lw_g (lw_at lw_m7 56 rfl) rfl
theorem q1781 : (Jvm.Cond.methodLink "ResourceLedger" (661 : Nat) ({ cls := "ResourceLedger$HashTree$Digest", name := "end", desc := "()V" } : Jvm.MethodName)) ∈ lw_all := lw_g (lw_at lw_m7 77 rfl) rfl
theorem q1791 : (Jvm.Cond.methodLink "ResourceLedger" (664 : Nat) ({ cls := "ResourceLedger$HashTree$Digest", name := "number", desc := "(I)J" } : Jvm.MethodName)) ∈ lw_all := lw_g (lw_at lw_m7 87 rfl) rfl
theorem q1796 : (Jvm.Cond.constantLong "ResourceLedger" (444 : Nat) (255 : Int64)) ∈ lw_all := lw_g (lw_at lw_m7 92 rfl) rfl
theorem q1797 : (Jvm.Cond.methodLink "ResourceLedger" (752 : Nat) ({ cls := "ResourceLedger", name := "beginTransaction", desc := "()V" } : Jvm.MethodName)) ∈ lw_all := lw_g (lw_at lw_m7 93 rfl) rfl
theorem q1798 : (Jvm.Cond.privateMethod ({ cls := "ResourceLedger", name := "beginTransaction", desc := "()V" } : Jvm.MethodName)) ∈ lw_tbl := lw_at lw_m7 94 rfl
theorem q1799 : (Jvm.Cond.instanceMethod ({ cls := "ResourceLedger", name := "beginTransaction", desc := "()V" } : Jvm.MethodName)) ∈ lw_all := lw_g (lw_at lw_m7 95 rfl) rfl
theorem q1800 : (Jvm.Cond.code ({ cls := "ResourceLedger", name := "beginTransaction", desc := "()V" } : Jvm.MethodName) prog_1_method_10_code (9 : Nat) (Option.none : Option Jvm.ClassFile.FieldType)) ∈ lw_all := lw_g (lw_at lw_m7 96 rfl) rfl
theorem q1801 : (Jvm.Cond.methodLink "ResourceLedger" (290 : Nat) ({ cls := "ResourceLedger", name := "publishing", desc := "(LResourceLedger$Transaction;)V" } : Jvm.MethodName)) ∈ lw_all := lw_g (lw_at lw_m7 97 rfl) rfl
theorem q1802 : (Jvm.Cond.privateMethod ({ cls := "ResourceLedger", name := "publishing", desc := "(LResourceLedger$Transaction;)V" } : Jvm.MethodName)) ∈ lw_tbl := lw_at lw_m7 98 rfl
theorem q1803 : (Jvm.Cond.instanceMethod ({ cls := "ResourceLedger", name := "publishing", desc := "(LResourceLedger$Transaction;)V" } : Jvm.MethodName)) ∈ lw_all := lw_g (lw_at lw_m7 99 rfl) rfl
theorem q1804 : (Jvm.Cond.code ({ cls := "ResourceLedger", name := "publishing", desc := "(LResourceLedger$Transaction;)V" } : Jvm.MethodName) prog_1_method_12_code (7 : Nat) (Option.none : Option Jvm.ClassFile.FieldType)) ∈ lw_all := lw_g (lw_at lw_m7 100 rfl) rfl
theorem q1805 : (Jvm.Cond.constantLong "ResourceLedger" (346 : Nat) (8 : Int64)) ∈ lw_all := lw_g (lw_at lw_m7 101 rfl) rfl
theorem q1806 : (Jvm.Cond.methodLink "ResourceLedger" (394 : Nat) ({ cls := "ResourceLedger", name := "faulty", desc := "(II)V" } : Jvm.MethodName)) ∈ lw_all := lw_g (lw_at lw_m7 102 rfl) rfl
theorem q1807 : (Jvm.Cond.privateMethod ({ cls := "ResourceLedger", name := "faulty", desc := "(II)V" } : Jvm.MethodName)) ∈ lw_tbl := lw_at lw_m7 103 rfl
theorem q1808 : (Jvm.Cond.instanceMethod ({ cls := "ResourceLedger", name := "faulty", desc := "(II)V" } : Jvm.MethodName)) ∈ lw_all := lw_g (lw_at lw_m7 104 rfl) rfl
theorem q1809 : (Jvm.Cond.code ({ cls := "ResourceLedger", name := "faulty", desc := "(II)V" } : Jvm.MethodName) prog_1_method_13_code (3 : Nat) (Option.none : Option Jvm.ClassFile.FieldType)) ∈ lw_all := lw_g (lw_at lw_m7 105 rfl) rfl
theorem q1810 : (Jvm.Cond.methodLink "ResourceLedger" (400 : Nat) ({ cls := "ResourceLedger", name := "link", desc := "(LResourceLedger$Module;)V" } : Jvm.MethodName)) ∈ lw_all := lw_g (lw_at lw_m7 106 rfl) rfl
theorem q1811 : (Jvm.Cond.privateMethod ({ cls := "ResourceLedger", name := "link", desc := "(LResourceLedger$Module;)V" } : Jvm.MethodName)) ∈ lw_tbl := lw_at lw_m7 107 rfl
theorem q1812 : (Jvm.Cond.instanceMethod ({ cls := "ResourceLedger", name := "link", desc := "(LResourceLedger$Module;)V" } : Jvm.MethodName)) ∈ lw_all := lw_g (lw_at lw_m7 108 rfl) rfl
theorem q1813 : (Jvm.Cond.code ({ cls := "ResourceLedger", name := "link", desc := "(LResourceLedger$Module;)V" } : Jvm.MethodName) prog_1_method_14_code (7 : Nat) (Option.none : Option Jvm.ClassFile.FieldType)) ∈ lw_all := lw_g (lw_at lw_m7 109 rfl) rfl
theorem q1814 : (Jvm.Cond.methodLink "ResourceLedger" (436 : Nat) ({ cls := "ResourceLedger", name := "isLike", desc := "(LResourceLedger$Module;LResourceLedger$Function;LResourceLedger$Module;LResourceLedger$Function;)Z" } : Jvm.MethodName)) ∈ lw_all := lw_g (lw_at lw_m7 110 rfl) rfl
theorem q1815 : (Jvm.Cond.static ({ cls := "ResourceLedger", name := "isLike", desc := "(LResourceLedger$Module;LResourceLedger$Function;LResourceLedger$Module;LResourceLedger$Function;)Z" } : Jvm.MethodName)) ∈ lw_all := lw_g (lw_at lw_m7 111 rfl) rfl
theorem q1816 : (Jvm.Cond.code ({ cls := "ResourceLedger", name := "isLike", desc := "(LResourceLedger$Module;LResourceLedger$Function;LResourceLedger$Module;LResourceLedger$Function;)Z" } : Jvm.MethodName) prog_1_method_15_code (6 : Nat) (Option.some Jvm.ClassFile.FieldType.boolean)) ∈ lw_all := lw_g (lw_at lw_m7 112 rfl) rfl
theorem q1817 : (Jvm.Cond.methodLink "ResourceLedger" (335 : Nat) ({ cls := "ResourceLedger$Span", name := "get", desc := "(LResourceLedger$Types;I)J" } : Jvm.MethodName)) ∈ lw_all := lw_g (lw_at lw_m7 113 rfl) rfl
theorem q1818 : (Jvm.Cond.methodLink "ResourceLedger" (440 : Nat) ({ cls := "ResourceLedger", name := "isSameType", desc := "(LResourceLedger$Tables;JLResourceLedger$Tables;J)Z" } : Jvm.MethodName)) ∈ lw_all := lw_g (lw_at lw_m7 114 rfl) rfl
theorem q1819 : (Jvm.Cond.static ({ cls := "ResourceLedger", name := "isSameType", desc := "(LResourceLedger$Tables;JLResourceLedger$Tables;J)Z" } : Jvm.MethodName)) ∈ lw_all := lw_g (lw_at lw_m7 115 rfl) rfl
theorem q1820 : (Jvm.Cond.code ({ cls := "ResourceLedger", name := "isSameType", desc := "(LResourceLedger$Tables;JLResourceLedger$Tables;J)Z" } : Jvm.MethodName) prog_1_method_16_code (9 : Nat) (Option.some Jvm.ClassFile.FieldType.boolean)) ∈ lw_all := lw_g (lw_at lw_m7 116 rfl) rfl
theorem q1821 : (Jvm.Cond.constantLong "ResourceLedger" (319 : Nat) (6 : Int64)) ∈ lw_all := lw_g (lw_at lw_m7 117 rfl) rfl
theorem q1822 : (Jvm.Cond.methodLink "ResourceLedger" (446 : Nat) ({ cls := "ResourceLedger", name := "moduleOf", desc := "(LResourceLedger$Tables;I)I" } : Jvm.MethodName)) ∈ lw_all := lw_g (lw_at lw_m7 118 rfl) rfl
theorem q1823 : (Jvm.Cond.static ({ cls := "ResourceLedger", name := "moduleOf", desc := "(LResourceLedger$Tables;I)I" } : Jvm.MethodName)) ∈ lw_all := lw_g (lw_at lw_m7 119 rfl) rfl
theorem q1824 : (Jvm.Cond.code ({ cls := "ResourceLedger", name := "moduleOf", desc := "(LResourceLedger$Tables;I)I" } : Jvm.MethodName) prog_1_method_17_code (2 : Nat) (Option.some Jvm.ClassFile.FieldType.int)) ∈ lw_all := lw_g (lw_at lw_m7 120 rfl) rfl
theorem q1825 : (Jvm.Cond.methodLink "ResourceLedger" (453 : Nat) ({ cls := "ResourceLedger$Tables", name := "structureAt", desc := "(I)LResourceLedger$Structure;" } : Jvm.MethodName)) ∈ lw_all := lw_g (lw_at lw_m7 121 rfl) rfl
theorem q1829 : (Jvm.Cond.methodLink "ResourceLedger" (450 : Nat) ({ cls := "ResourceLedger", name := "numberOf", desc := "(LResourceLedger$Tables;I)I" } : Jvm.MethodName)) ∈ lw_all := lw_g (lw_at lw_m7 125 rfl) rfl
theorem q1830 : (Jvm.Cond.static ({ cls := "ResourceLedger", name := "numberOf", desc := "(LResourceLedger$Tables;I)I" } : Jvm.MethodName)) ∈ lw_all := lw_g (lw_at lw_m7 126 rfl) rfl
theorem q1831 : (Jvm.Cond.code ({ cls := "ResourceLedger", name := "numberOf", desc := "(LResourceLedger$Tables;I)I" } : Jvm.MethodName) prog_1_method_18_code (2 : Nat) (Option.some Jvm.ClassFile.FieldType.int)) ∈ lw_all := lw_g (lw_at lw_m7 127 rfl) rfl
theorem q1832 : (Jvm.Cond.methodLink "ResourceLedger" (404 : Nat) ({ cls := "ResourceLedger", name := "lookAt", desc := "(LResourceLedger$Module;)V" } : Jvm.MethodName)) ∈ lw_all := lw_g (lw_at lw_m7 128 rfl) rfl
theorem q1833 : (Jvm.Cond.privateMethod ({ cls := "ResourceLedger", name := "lookAt", desc := "(LResourceLedger$Module;)V" } : Jvm.MethodName)) ∈ lw_tbl := lw_at lw_m7 129 rfl
theorem q1834 : (Jvm.Cond.instanceMethod ({ cls := "ResourceLedger", name := "lookAt", desc := "(LResourceLedger$Module;)V" } : Jvm.MethodName)) ∈ lw_all := lw_g (lw_at lw_m7 130 rfl) rfl
theorem q1835 : (Jvm.Cond.code ({ cls := "ResourceLedger", name := "lookAt", desc := "(LResourceLedger$Module;)V" } : Jvm.MethodName) prog_1_method_19_code (5 : Nat) (Option.none : Option Jvm.ClassFile.FieldType)) ∈ lw_all := lw_g (lw_at lw_m7 131 rfl) rfl
theorem q1836 : (Jvm.Cond.methodLink "ResourceLedger" (457 : Nat) ({ cls := "ResourceLedger$Checker", name := "doesBear", desc := "(LResourceLedger$Tables;LResourceLedger$Structure;)Z" } : Jvm.MethodName)) ∈ lw_all := lw_g (lw_at lw_m7 132 rfl) rfl
theorem q1868 : (Jvm.Cond.methodLink "ResourceLedger" (461 : Nat) ({ cls := "ResourceLedger", name := "depthOf", desc := "(LResourceLedger$Module;LResourceLedger$Structure;)I" } : Jvm.MethodName)) ∈ lw_all := lw_g (lw_at lw_m7 164 rfl) rfl
theorem q1869 : (Jvm.Cond.static ({ cls := "ResourceLedger", name := "depthOf", desc := "(LResourceLedger$Module;LResourceLedger$Structure;)I" } : Jvm.MethodName)) ∈ lw_all := lw_g (lw_at lw_m7 165 rfl) rfl
theorem q1870 : (Jvm.Cond.code ({ cls := "ResourceLedger", name := "depthOf", desc := "(LResourceLedger$Module;LResourceLedger$Structure;)I" } : Jvm.MethodName) prog_1_method_20_code (7 : Nat) (Option.some Jvm.ClassFile.FieldType.int)) ∈ lw_all := lw_g (lw_at lw_m7 166 rfl) rfl
theorem q1871 : (Jvm.Cond.methodLink "ResourceLedger" (473 : Nat) ({ cls := "ResourceLedger$Type", name := "head", desc := "(J)I" } : Jvm.MethodName)) ∈ lw_all := lw_g (lw_at lw_m7 167 rfl) rfl
theorem q1872 : (Jvm.Cond.methodLink "ResourceLedger" (479 : Nat) ({ cls := "ResourceLedger$Type", name := "rest", desc := "(J)J" } : Jvm.MethodName)) ∈ lw_all := lw_g (lw_at lw_m7 168 rfl) rfl
theorem q1873 : (Jvm.Cond.methodLink "ResourceLedger" (465 : Nat) ({ cls := "ResourceLedger$Checker", name := "check", desc := "(LResourceLedger$Tables;LResourceLedger$Function;)I" } : Jvm.MethodName)) ∈ lw_all := lw_g (lw_at lw_m7 169 rfl) rfl
theorem q2062 : (Jvm.Cond.constantLong "ResourceLedger" (341 : Nat) (7 : Int64)) ∈ lw_all := lw_g (lw_at lw_m8 118 rfl) rfl
theorem q2063 : (Jvm.Cond.methodLink "ResourceLedger" (755 : Nat) ({ cls := "ResourceLedger", name := "hold", desc := "(I)V" } : Jvm.MethodName)) ∈ lw_all := lw_g (lw_at lw_m8 119 rfl) rfl
theorem q2064 : (Jvm.Cond.privateMethod ({ cls := "ResourceLedger", name := "hold", desc := "(I)V" } : Jvm.MethodName)) ∈ lw_tbl := lw_at lw_m8 120 rfl
theorem q2065 : (Jvm.Cond.instanceMethod ({ cls := "ResourceLedger", name := "hold", desc := "(I)V" } : Jvm.MethodName)) ∈ lw_all := lw_g (lw_at lw_m8 121 rfl) rfl
theorem q2066 : (Jvm.Cond.code ({ cls := "ResourceLedger", name := "hold", desc := "(I)V" } : Jvm.MethodName) prog_1_method_51_code (3 : Nat) (Option.none : Option Jvm.ClassFile.FieldType)) ∈ lw_all := lw_g (lw_at lw_m8 122 rfl) rfl
theorem q2067 : (Jvm.Cond.methodLink "ResourceLedger" (761 : Nat) ({ cls := "ResourceLedger$Worker", name := "clear", desc := "(LResourceLedger$Pool;)V" } : Jvm.MethodName)) ∈ lw_all := lw_g (lw_at lw_m8 123 rfl) rfl
theorem q2073 : (Jvm.Cond.methodLink "ResourceLedger" (768 : Nat) ({ cls := "ResourceLedger", name := "rest", desc := "()V" } : Jvm.MethodName)) ∈ lw_all := lw_g (lw_at lw_m8 129 rfl) rfl
theorem q2074 : (Jvm.Cond.privateMethod ({ cls := "ResourceLedger", name := "rest", desc := "()V" } : Jvm.MethodName)) ∈ lw_tbl := lw_at lw_m8 130 rfl
theorem q2075 : (Jvm.Cond.instanceMethod ({ cls := "ResourceLedger", name := "rest", desc := "()V" } : Jvm.MethodName)) ∈ lw_all := lw_g (lw_at lw_m8 131 rfl) rfl
theorem q2076 : (Jvm.Cond.code ({ cls := "ResourceLedger", name := "rest", desc := "()V" } : Jvm.MethodName) prog_1_method_49_code (1 : Nat) (Option.none : Option Jvm.ClassFile.FieldType)) ∈ lw_all := lw_g (lw_at lw_m8 132 rfl) rfl
theorem q2077 : (Jvm.Cond.methodLink "ResourceLedger" (758 : Nat) ({ cls := "ResourceLedger", name := "finish", desc := "(IJ)V" } : Jvm.MethodName)) ∈ lw_all := lw_g (lw_at lw_m8 133 rfl) rfl
theorem q2078 : (Jvm.Cond.privateMethod ({ cls := "ResourceLedger", name := "finish", desc := "(IJ)V" } : Jvm.MethodName)) ∈ lw_tbl := lw_at lw_m8 134 rfl
theorem q2079 : (Jvm.Cond.instanceMethod ({ cls := "ResourceLedger", name := "finish", desc := "(IJ)V" } : Jvm.MethodName)) ∈ lw_all := lw_g (lw_at lw_m8 135 rfl) rfl
theorem q2080 : (Jvm.Cond.code ({ cls := "ResourceLedger", name := "finish", desc := "(IJ)V" } : Jvm.MethodName) prog_1_method_52_code (8 : Nat) (Option.none : Option Jvm.ClassFile.FieldType)) ∈ lw_all := lw_g (lw_at lw_m8 136 rfl) rfl
theorem q2081 : (Jvm.Cond.methodLink "ResourceLedger" (787 : Nat) ({ cls := "ResourceLedger", name := "forget", desc := "(LResourceLedger$Transaction;)V" } : Jvm.MethodName)) ∈ lw_all := lw_g (lw_at lw_m8 137 rfl) rfl
theorem q2082 : (Jvm.Cond.privateMethod ({ cls := "ResourceLedger", name := "forget", desc := "(LResourceLedger$Transaction;)V" } : Jvm.MethodName)) ∈ lw_tbl := lw_at lw_m8 138 rfl
theorem q2083 : (Jvm.Cond.instanceMethod ({ cls := "ResourceLedger", name := "forget", desc := "(LResourceLedger$Transaction;)V" } : Jvm.MethodName)) ∈ lw_all := lw_g (lw_at lw_m8 139 rfl) rfl
theorem q2084 : (Jvm.Cond.code ({ cls := "ResourceLedger", name := "forget", desc := "(LResourceLedger$Transaction;)V" } : Jvm.MethodName) prog_1_method_53_code (4 : Nat) (Option.none : Option Jvm.ClassFile.FieldType)) ∈ lw_all := lw_g (lw_at lw_m8 140 rfl) rfl
theorem q2085 : (Jvm.Cond.methodLink "ResourceLedger" (790 : Nat) ({ cls := "ResourceLedger", name := "leave", desc := "(LResourceLedger$Transaction;Z)V" } : Jvm.MethodName)) ∈ lw_all := lw_g (lw_at lw_m8 141 rfl) rfl
theorem q2086 : (Jvm.Cond.privateMethod ({ cls := "ResourceLedger", name := "leave", desc := "(LResourceLedger$Transaction;Z)V" } : Jvm.MethodName)) ∈ lw_tbl := lw_at lw_m8 142 rfl
theorem q2087 : (Jvm.Cond.instanceMethod ({ cls := "ResourceLedger", name := "leave", desc := "(LResourceLedger$Transaction;Z)V" } : Jvm.MethodName)) ∈ lw_all := lw_g (lw_at lw_m8 143 rfl) rfl
theorem q2088 : (Jvm.Cond.code ({ cls := "ResourceLedger", name := "leave", desc := "(LResourceLedger$Transaction;Z)V" } : Jvm.MethodName) prog_1_method_54_code (9 : Nat) (Option.none : Option Jvm.ClassFile.FieldType)) ∈ lw_all := lw_g (lw_at lw_m8 144 rfl) rfl
theorem q2089 : (Jvm.Cond.methodLink "ResourceLedger" (794 : Nat) ({ cls := "ResourceLedger", name := "release", desc := "(I)V" } : Jvm.MethodName)) ∈ lw_all := lw_g (lw_at lw_m8 145 rfl) rfl
theorem q2090 : (Jvm.Cond.privateMethod ({ cls := "ResourceLedger", name := "release", desc := "(I)V" } : Jvm.MethodName)) ∈ lw_tbl := lw_at lw_m8 146 rfl
theorem q2091 : (Jvm.Cond.instanceMethod ({ cls := "ResourceLedger", name := "release", desc := "(I)V" } : Jvm.MethodName)) ∈ lw_all := lw_g (lw_at lw_m8 147 rfl) rfl
theorem q2092 : (Jvm.Cond.code ({ cls := "ResourceLedger", name := "release", desc := "(I)V" } : Jvm.MethodName) prog_1_method_55_code (3 : Nat) (Option.none : Option Jvm.ClassFile.FieldType)) ∈ lw_all := lw_g (lw_at lw_m8 148 rfl) rfl
theorem q2093 : (Jvm.Cond.methodLink "ResourceLedger" (725 : Nat) ({ cls := "ResourceLedger", name := "lookOn", desc := "()V" } : Jvm.MethodName)) ∈ lw_all := lw_g (lw_at lw_m8 149 rfl) rfl
theorem q2094 : (Jvm.Cond.privateMethod ({ cls := "ResourceLedger", name := "lookOn", desc := "()V" } : Jvm.MethodName)) ∈ lw_tbl := lw_at lw_m8 150 rfl
theorem q2095 : (Jvm.Cond.instanceMethod ({ cls := "ResourceLedger", name := "lookOn", desc := "()V" } : Jvm.MethodName)) ∈ lw_all := lw_g (lw_at lw_m8 151 rfl) rfl
theorem q2096 : (Jvm.Cond.code ({ cls := "ResourceLedger", name := "lookOn", desc := "()V" } : Jvm.MethodName) prog_1_method_56_code (5 : Nat) (Option.none : Option Jvm.ClassFile.FieldType)) ∈ lw_all := lw_g (lw_at lw_m8 152 rfl) rfl
theorem q2097 : (Jvm.Cond.methodLink "ResourceLedger" (797 : Nat) ({ cls := "ResourceLedger", name := "again", desc := "(I)V" } : Jvm.MethodName)) ∈ lw_all := lw_g (lw_at lw_m8 153 rfl) rfl
theorem q2098 : (Jvm.Cond.privateMethod ({ cls := "ResourceLedger", name := "again", desc := "(I)V" } : Jvm.MethodName)) ∈ lw_tbl := lw_at lw_m8 154 rfl
theorem q2099 : (Jvm.Cond.instanceMethod ({ cls := "ResourceLedger", name := "again", desc := "(I)V" } : Jvm.MethodName)) ∈ lw_all := lw_g (lw_at lw_m8 155 rfl) rfl
theorem q2100 : (Jvm.Cond.code ({ cls := "ResourceLedger", name := "again", desc := "(I)V" } : Jvm.MethodName) prog_1_method_57_code (4 : Nat) (Option.none : Option Jvm.ClassFile.FieldType)) ∈ lw_all := lw_g (lw_at lw_m8 156 rfl) rfl
theorem q2101 : (Jvm.Cond.methodLink "ResourceLedger" (808 : Nat) ({ cls := "ResourceLedger", name := "takeOver", desc := "(LResourceLedger$Transaction;)V" } : Jvm.MethodName)) ∈ lw_all := lw_g (lw_at lw_m8 157 rfl) rfl
theorem q2102 : (Jvm.Cond.privateMethod ({ cls := "ResourceLedger", name := "takeOver", desc := "(LResourceLedger$Transaction;)V" } : Jvm.MethodName)) ∈ lw_tbl := lw_at lw_m8 158 rfl
theorem q2103 : (Jvm.Cond.instanceMethod ({ cls := "ResourceLedger", name := "takeOver", desc := "(LResourceLedger$Transaction;)V" } : Jvm.MethodName)) ∈ lw_all := lw_g (lw_at lw_m8 159 rfl) rfl
theorem q2104 : (Jvm.Cond.code ({ cls := "ResourceLedger", name := "takeOver", desc := "(LResourceLedger$Transaction;)V" } : Jvm.MethodName) prog_1_method_61_code (5 : Nat) (Option.none : Option Jvm.ClassFile.FieldType)) ∈ lw_all := lw_g (lw_at lw_m8 160 rfl) rfl
theorem q2105 : (Jvm.Cond.methodLink "ResourceLedger" (829 : Nat) ({ cls := "ResourceLedger", name := "remove", desc := "(LResourceLedger$Entry;)V" } : Jvm.MethodName)) ∈ lw_all := lw_g (lw_at lw_m8 161 rfl) rfl
theorem q2106 : (Jvm.Cond.privateMethod ({ cls := "ResourceLedger", name := "remove", desc := "(LResourceLedger$Entry;)V" } : Jvm.MethodName)) ∈ lw_tbl := lw_at lw_m8 162 rfl
theorem q2107 : (Jvm.Cond.instanceMethod ({ cls := "ResourceLedger", name := "remove", desc := "(LResourceLedger$Entry;)V" } : Jvm.MethodName)) ∈ lw_all := lw_g (lw_at lw_m8 163 rfl) rfl
theorem q2108 : (Jvm.Cond.code ({ cls := "ResourceLedger", name := "remove", desc := "(LResourceLedger$Entry;)V" } : Jvm.MethodName) prog_1_method_64_code (3 : Nat) (Option.none : Option Jvm.ClassFile.FieldType)) ∈ lw_all := lw_g (lw_at lw_m8 164 rfl) rfl
theorem q2109 : (Jvm.Cond.methodLink "ResourceLedger" (833 : Nat) ({ cls := "ResourceLedger", name := "fresh", desc := "(IJI)LResourceLedger$Entry;" } : Jvm.MethodName)) ∈ lw_all := lw_g (lw_at lw_m8 165 rfl) rfl
theorem q2110 : (Jvm.Cond.privateMethod ({ cls := "ResourceLedger", name := "fresh", desc := "(IJI)LResourceLedger$Entry;" } : Jvm.MethodName)) ∈ lw_tbl := lw_at lw_m8 166 rfl
theorem q2111 : (Jvm.Cond.instanceMethod ({ cls := "ResourceLedger", name := "fresh", desc := "(IJI)LResourceLedger$Entry;" } : Jvm.MethodName)) ∈ lw_all := lw_g (lw_at lw_m8 167 rfl) rfl
theorem q2112 : (Jvm.Cond.code ({ cls := "ResourceLedger", name := "fresh", desc := "(IJI)LResourceLedger$Entry;" } : Jvm.MethodName) prog_1_method_63_code (6 : Nat) (Option.some (Jvm.ClassFile.FieldType.object "ResourceLedger$Entry"))) ∈ lw_all := lw_g (lw_at lw_m8 168 rfl) rfl
theorem q2113 : (Jvm.Cond.methodLink "ResourceLedger" (836 : Nat) ({ cls := "ResourceLedger", name := "spare", desc := "()LResourceLedger$Module;" } : Jvm.MethodName)) ∈ lw_all := lw_g (lw_at lw_m8 169 rfl) rfl
theorem q2114 : (Jvm.Cond.privateMethod ({ cls := "ResourceLedger", name := "spare", desc := "()LResourceLedger$Module;" } : Jvm.MethodName)) ∈ lw_tbl := lw_at lw_m8 170 rfl
theorem q2115 : (Jvm.Cond.instanceMethod ({ cls := "ResourceLedger", name := "spare", desc := "()LResourceLedger$Module;" } : Jvm.MethodName)) ∈ lw_all := lw_g (lw_at lw_m8 171 rfl) rfl
theorem q2116 : (Jvm.Cond.code ({ cls := "ResourceLedger", name := "spare", desc := "()LResourceLedger$Module;" } : Jvm.MethodName) prog_1_method_62_code (1 : Nat) (Option.some (Jvm.ClassFile.FieldType.object "ResourceLedger$Module"))) ∈ lw_all := lw_g (lw_at lw_m8 172 rfl) rfl
theorem q2118 : (Jvm.Cond.instanceMethod ({ cls := "ResourceLedger", name := "type", desc := "(JI)I" } : Jvm.MethodName)) ∈ lw_all := lw_g (lw_at lw_m8 174 rfl) rfl
theorem q2119 : (Jvm.Cond.selects "ResourceLedger" ({ cls := "ResourceLedger", name := "type", desc := "(JI)I" } : Jvm.MethodName) ({ cls := "ResourceLedger", name := "type", desc := "(JI)I" } : Jvm.MethodName)) ∈ lw_all := lw_g (lw_at lw_m8 175 rfl) rfl
theorem q2120 : (Jvm.Cond.code ({ cls := "ResourceLedger", name := "type", desc := "(JI)I" } : Jvm.MethodName) prog_1_method_65_code (5 : Nat) (Option.some Jvm.ClassFile.FieldType.int)) ∈ lw_all := lw_g (lw_at lw_m8 176 rfl) rfl
theorem q2122 : (Jvm.Cond.instanceMethod ({ cls := "ResourceLedger", name := "mint", desc := "(JJ)Z" } : Jvm.MethodName)) ∈ lw_all := lw_g (lw_at lw_m8 178 rfl) rfl
theorem q2123 : (Jvm.Cond.selects "ResourceLedger" ({ cls := "ResourceLedger", name := "mint", desc := "(JJ)Z" } : Jvm.MethodName) ({ cls := "ResourceLedger", name := "mint", desc := "(JJ)Z" } : Jvm.MethodName)) ∈ lw_all := lw_g (lw_at lw_m8 179 rfl) rfl
theorem q2124 : (Jvm.Cond.code ({ cls := "ResourceLedger", name := "mint", desc := "(JJ)Z" } : Jvm.MethodName) prog_1_method_66_code (6 : Nat) (Option.some Jvm.ClassFile.FieldType.boolean)) ∈ lw_all := lw_g (lw_at lw_m8 180 rfl) rfl
theorem q2125 : (Jvm.Cond.constantLong "ResourceLedger" (846 : Nat) (4611686018427387904 : Int64)) ∈ lw_all := lw_g (lw_at lw_m8 181 rfl) rfl
theorem q2127 : (Jvm.Cond.instanceMethod ({ cls := "ResourceLedger", name := "begin", desc := "()I" } : Jvm.MethodName)) ∈ lw_all := lw_g (lw_at lw_m8 183 rfl) rfl
theorem q2128 : (Jvm.Cond.selects "ResourceLedger" ({ cls := "ResourceLedger", name := "begin", desc := "()I" } : Jvm.MethodName) ({ cls := "ResourceLedger", name := "begin", desc := "()I" } : Jvm.MethodName)) ∈ lw_all := lw_g (lw_at lw_m8 184 rfl) rfl
theorem q2129 : (Jvm.Cond.code ({ cls := "ResourceLedger", name := "begin", desc := "()I" } : Jvm.MethodName) prog_1_method_67_code (2 : Nat) (Option.some Jvm.ClassFile.FieldType.int)) ∈ lw_all := lw_g (lw_at lw_m8 185 rfl) rfl
theorem q2131 : (Jvm.Cond.instanceMethod ({ cls := "ResourceLedger", name := "publish", desc := "(JJI)I" } : Jvm.MethodName)) ∈ lw_all := lw_g (lw_at lw_m8 187 rfl) rfl
theorem q2132 : (Jvm.Cond.selects "ResourceLedger" ({ cls := "ResourceLedger", name := "publish", desc := "(JJI)I" } : Jvm.MethodName) ({ cls := "ResourceLedger", name := "publish", desc := "(JJI)I" } : Jvm.MethodName)) ∈ lw_all := lw_g (lw_at lw_m8 188 rfl) rfl
theorem q2133 : (Jvm.Cond.code ({ cls := "ResourceLedger", name := "publish", desc := "(JJI)I" } : Jvm.MethodName) prog_1_method_70_code (9 : Nat) (Option.some Jvm.ClassFile.FieldType.int)) ∈ lw_all := lw_g (lw_at lw_m8 189 rfl) rfl
theorem q2134 : (Jvm.Cond.methodLink "ResourceLedger" (851 : Nat) ({ cls := "ResourceLedger", name := "isLimit", desc := "(I)Z" } : Jvm.MethodName)) ∈ lw_all := lw_g (lw_at lw_m8 190 rfl) rfl
theorem q2135 : (Jvm.Cond.static ({ cls := "ResourceLedger", name := "isLimit", desc := "(I)Z" } : Jvm.MethodName)) ∈ lw_all := lw_g (lw_at lw_m8 191 rfl) rfl
theorem q2136 : (Jvm.Cond.code ({ cls := "ResourceLedger", name := "isLimit", desc := "(I)Z" } : Jvm.MethodName) prog_1_method_68_code (1 : Nat) (Option.some Jvm.ClassFile.FieldType.boolean)) ∈ lw_all := lw_g (lw_at lw_m8 192 rfl) rfl
theorem q2137 : (Jvm.Cond.methodLink "ResourceLedger" (855 : Nat) ({ cls := "ResourceLedger", name := "transaction", desc := "(JJIZ)LResourceLedger$Transaction;" } : Jvm.MethodName)) ∈ lw_all := lw_g (lw_at lw_m8 193 rfl) rfl
theorem q2138 : (Jvm.Cond.privateMethod ({ cls := "ResourceLedger", name := "transaction", desc := "(JJIZ)LResourceLedger$Transaction;" } : Jvm.MethodName)) ∈ lw_tbl := lw_at lw_m8 194 rfl
theorem q2139 : (Jvm.Cond.instanceMethod ({ cls := "ResourceLedger", name := "transaction", desc := "(JJIZ)LResourceLedger$Transaction;" } : Jvm.MethodName)) ∈ lw_all := lw_g (lw_at lw_m8 195 rfl) rfl
theorem q2140 : (Jvm.Cond.code ({ cls := "ResourceLedger", name := "transaction", desc := "(JJIZ)LResourceLedger$Transaction;" } : Jvm.MethodName) prog_1_method_69_code (8 : Nat) (Option.some (Jvm.ClassFile.FieldType.object "ResourceLedger$Transaction"))) ∈ lw_all := lw_g (lw_at lw_m8 196 rfl) rfl
theorem q2142 : (Jvm.Cond.instanceMethod ({ cls := "ResourceLedger", name := "call", desc := "(JJIII)I" } : Jvm.MethodName)) ∈ lw_all := lw_g (lw_at lw_m8 198 rfl) rfl
theorem q2143 : (Jvm.Cond.selects "ResourceLedger" ({ cls := "ResourceLedger", name := "call", desc := "(JJIII)I" } : Jvm.MethodName) ({ cls := "ResourceLedger", name := "call", desc := "(JJIII)I" } : Jvm.MethodName)) ∈ lw_all := lw_g (lw_at lw_m8 199 rfl) rfl
theorem q2144 : (Jvm.Cond.code ({ cls := "ResourceLedger", name := "call", desc := "(JJIII)I" } : Jvm.MethodName) prog_1_method_71_code (9 : Nat) (Option.some Jvm.ClassFile.FieldType.int)) ∈ lw_all := lw_g (lw_at lw_m8 200 rfl) rfl
theorem q2145 : (Jvm.Cond.constant "ResourceLedger" (862 : Nat) (65535 : Int32)) ∈ lw_all := lw_g (lw_at lw_m8 201 rfl) rfl
theorem q2147 : (Jvm.Cond.instanceMethod ({ cls := "ResourceLedger", name := "argument", desc := "(IJJ)I" } : Jvm.MethodName)) ∈ lw_all := lw_g (lw_at lw_m8 203 rfl) rfl
theorem q2148 : (Jvm.Cond.selects "ResourceLedger" ({ cls := "ResourceLedger", name := "argument", desc := "(IJJ)I" } : Jvm.MethodName) ({ cls := "ResourceLedger", name := "argument", desc := "(IJJ)I" } : Jvm.MethodName)) ∈ lw_all := lw_g (lw_at lw_m8 204 rfl) rfl
theorem q2149 : (Jvm.Cond.code ({ cls := "ResourceLedger", name := "argument", desc := "(IJJ)I" } : Jvm.MethodName) prog_1_method_72_code (8 : Nat) (Option.some Jvm.ClassFile.FieldType.int)) ∈ lw_all := lw_g (lw_at lw_m8 205 rfl) rfl
theorem q2151 : (Jvm.Cond.instanceMethod ({ cls := "ResourceLedger", name := "weave", desc := "(J)I" } : Jvm.MethodName)) ∈ lw_all := lw_g (lw_at lw_m8 207 rfl) rfl
theorem q2152 : (Jvm.Cond.selects "ResourceLedger" ({ cls := "ResourceLedger", name := "weave", desc := "(J)I" } : Jvm.MethodName) ({ cls := "ResourceLedger", name := "weave", desc := "(J)I" } : Jvm.MethodName)) ∈ lw_all := lw_g (lw_at lw_m8 208 rfl) rfl
theorem q2153 : (Jvm.Cond.code ({ cls := "ResourceLedger", name := "weave", desc := "(J)I" } : Jvm.MethodName) prog_1_method_73_code (4 : Nat) (Option.some Jvm.ClassFile.FieldType.int)) ∈ lw_all := lw_g (lw_at lw_m8 209 rfl) rfl
theorem q2154 : (Jvm.Cond.constantLong "ResourceLedger" (863 : Nat) (15 : Int64)) ∈ lw_all := lw_g (lw_at lw_m8 210 rfl) rfl
theorem q2156 : (Jvm.Cond.instanceMethod ({ cls := "ResourceLedger", name := "unweave", desc := "()I" } : Jvm.MethodName)) ∈ lw_all := lw_g (lw_at lw_m8 212 rfl) rfl
theorem q2157 : (Jvm.Cond.selects "ResourceLedger" ({ cls := "ResourceLedger", name := "unweave", desc := "()I" } : Jvm.MethodName) ({ cls := "ResourceLedger", name := "unweave", desc := "()I" } : Jvm.MethodName)) ∈ lw_all := lw_g (lw_at lw_m8 213 rfl) rfl
theorem q2158 : (Jvm.Cond.code ({ cls := "ResourceLedger", name := "unweave", desc := "()I" } : Jvm.MethodName) prog_1_method_74_code (2 : Nat) (Option.some Jvm.ClassFile.FieldType.int)) ∈ lw_all := lw_g (lw_at lw_m8 214 rfl) rfl
theorem q2160 : (Jvm.Cond.instanceMethod ({ cls := "ResourceLedger", name := "told", desc := "(II)I" } : Jvm.MethodName)) ∈ lw_all := lw_g (lw_at lw_m8 216 rfl) rfl
theorem q2161 : (Jvm.Cond.selects "ResourceLedger" ({ cls := "ResourceLedger", name := "told", desc := "(II)I" } : Jvm.MethodName) ({ cls := "ResourceLedger", name := "told", desc := "(II)I" } : Jvm.MethodName)) ∈ lw_all := lw_g (lw_at lw_m8 217 rfl) rfl
theorem q2162 : (Jvm.Cond.code ({ cls := "ResourceLedger", name := "told", desc := "(II)I" } : Jvm.MethodName) prog_1_method_76_code (4 : Nat) (Option.some Jvm.ClassFile.FieldType.int)) ∈ lw_all := lw_g (lw_at lw_m8 218 rfl) rfl
theorem q2163 : (Jvm.Cond.methodLink "ResourceLedger" (865 : Nat) ({ cls := "ResourceLedger", name := "isTransaction", desc := "(I)Z" } : Jvm.MethodName)) ∈ lw_all := lw_g (lw_at lw_m8 219 rfl) rfl
theorem q2164 : (Jvm.Cond.privateMethod ({ cls := "ResourceLedger", name := "isTransaction", desc := "(I)Z" } : Jvm.MethodName)) ∈ lw_tbl := lw_at lw_m8 220 rfl
theorem q2165 : (Jvm.Cond.instanceMethod ({ cls := "ResourceLedger", name := "isTransaction", desc := "(I)Z" } : Jvm.MethodName)) ∈ lw_all := lw_g (lw_at lw_m8 221 rfl) rfl
theorem q2166 : (Jvm.Cond.code ({ cls := "ResourceLedger", name := "isTransaction", desc := "(I)Z" } : Jvm.MethodName) prog_1_method_75_code (2 : Nat) (Option.some Jvm.ClassFile.FieldType.boolean)) ∈ lw_all := lw_g (lw_at lw_m8 222 rfl) rfl
theorem q2168 : (Jvm.Cond.instanceMethod ({ cls := "ResourceLedger", name := "code", desc := "(I)J" } : Jvm.MethodName)) ∈ lw_all := lw_g (lw_at lw_m8 224 rfl) rfl
theorem q2169 : (Jvm.Cond.selects "ResourceLedger" ({ cls := "ResourceLedger", name := "code", desc := "(I)J" } : Jvm.MethodName) ({ cls := "ResourceLedger", name := "code", desc := "(I)J" } : Jvm.MethodName)) ∈ lw_all := lw_g (lw_at lw_m8 225 rfl) rfl
theorem q2170 : (Jvm.Cond.code ({ cls := "ResourceLedger", name := "code", desc := "(I)J" } : Jvm.MethodName) prog_1_method_77_code (2 : Nat) (Option.some Jvm.ClassFile.FieldType.long)) ∈ lw_all := lw_g (lw_at lw_m8 226 rfl) rfl
theorem q2172 : (Jvm.Cond.instanceMethod ({ cls := "ResourceLedger", name := "result", desc := "(III)J" } : Jvm.MethodName)) ∈ lw_all := lw_g (lw_at lw_m8 228 rfl) rfl
theorem q2173 : (Jvm.Cond.selects "ResourceLedger" ({ cls := "ResourceLedger", name := "result", desc := "(III)J" } : Jvm.MethodName) ({ cls := "ResourceLedger", name := "result", desc := "(III)J" } : Jvm.MethodName)) ∈ lw_all := lw_g (lw_at lw_m8 229 rfl) rfl
theorem q2174 : (Jvm.Cond.code ({ cls := "ResourceLedger", name := "result", desc := "(III)J" } : Jvm.MethodName) prog_1_method_78_code (5 : Nat) (Option.some Jvm.ClassFile.FieldType.long)) ∈ lw_all := lw_g (lw_at lw_m8 230 rfl) rfl
theorem q2176 : (Jvm.Cond.instanceMethod ({ cls := "ResourceLedger", name := "account", desc := "(JI)J" } : Jvm.MethodName)) ∈ lw_all := lw_g (lw_at lw_m8 232 rfl) rfl
theorem q2177 : (Jvm.Cond.selects "ResourceLedger" ({ cls := "ResourceLedger", name := "account", desc := "(JI)J" } : Jvm.MethodName) ({ cls := "ResourceLedger", name := "account", desc := "(JI)J" } : Jvm.MethodName)) ∈ lw_all := lw_g (lw_at lw_m8 233 rfl) rfl
theorem q2178 : (Jvm.Cond.code ({ cls := "ResourceLedger", name := "account", desc := "(JI)J" } : Jvm.MethodName) prog_1_method_79_code (5 : Nat) (Option.some Jvm.ClassFile.FieldType.long)) ∈ lw_all := lw_g (lw_at lw_m8 234 rfl) rfl
theorem q2180 : (Jvm.Cond.instanceMethod ({ cls := "ResourceLedger", name := "coins", desc := "(I)J" } : Jvm.MethodName)) ∈ lw_all := lw_g (lw_at lw_m8 236 rfl) rfl
theorem q2181 : (Jvm.Cond.selects "ResourceLedger" ({ cls := "ResourceLedger", name := "coins", desc := "(I)J" } : Jvm.MethodName) ({ cls := "ResourceLedger", name := "coins", desc := "(I)J" } : Jvm.MethodName)) ∈ lw_all := lw_g (lw_at lw_m8 237 rfl) rfl
theorem q2182 : (Jvm.Cond.code ({ cls := "ResourceLedger", name := "coins", desc := "(I)J" } : Jvm.MethodName) prog_1_method_80_code (6 : Nat) (Option.some Jvm.ClassFile.FieldType.long)) ∈ lw_all := lw_g (lw_at lw_m8 238 rfl) rfl
theorem q2183 : (Jvm.Cond.methodLink "ResourceLedger" (868 : Nat) ({ cls := "ResourceLedger$Value", name := "coins", desc := "(LResourceLedger$Value;)J" } : Jvm.MethodName)) ∈ lw_all := lw_g (lw_at lw_m8 239 rfl) rfl
theorem q2188 : (Jvm.Cond.instanceMethod ({ cls := "ResourceLedger", name := "places", desc := "(I)I" } : Jvm.MethodName)) ∈ lw_all := lw_g (lw_at lw_m9 4 rfl) rfl
theorem q2189 : (Jvm.Cond.selects "ResourceLedger" ({ cls := "ResourceLedger", name := "places", desc := "(I)I" } : Jvm.MethodName) ({ cls := "ResourceLedger", name := "places", desc := "(I)I" } : Jvm.MethodName)) ∈ lw_all := lw_g (lw_at lw_m9 5 rfl) rfl
theorem q2190 : (Jvm.Cond.code ({ cls := "ResourceLedger", name := "places", desc := "(I)I" } : Jvm.MethodName) prog_1_method_81_code (5 : Nat) (Option.some Jvm.ClassFile.FieldType.int)) ∈ lw_all := lw_g (lw_at lw_m9 6 rfl) rfl
theorem q2192 : (Jvm.Cond.instanceMethod ({ cls := "ResourceLedger", name := "resource", desc := "(JII)I" } : Jvm.MethodName)) ∈ lw_all := lw_g (lw_at lw_m9 8 rfl) rfl
theorem q2193 : (Jvm.Cond.selects "ResourceLedger" ({ cls := "ResourceLedger", name := "resource", desc := "(JII)I" } : Jvm.MethodName) ({ cls := "ResourceLedger", name := "resource", desc := "(JII)I" } : Jvm.MethodName)) ∈ lw_all := lw_g (lw_at lw_m9 9 rfl) rfl
theorem q2194 : (Jvm.Cond.code ({ cls := "ResourceLedger", name := "resource", desc := "(JII)I" } : Jvm.MethodName) prog_1_method_84_code (7 : Nat) (Option.some Jvm.ClassFile.FieldType.int)) ∈ lw_all := lw_g (lw_at lw_m9 10 rfl) rfl
theorem q2195 : (Jvm.Cond.constant "ResourceLedger" (883 : Nat) (65536 : Int32)) ∈ lw_all := lw_g (lw_at lw_m9 11 rfl) rfl
theorem q2196 : (Jvm.Cond.methodLink "ResourceLedger" (879 : Nat) ({ cls := "ResourceLedger", name := "write", desc := "(LResourceLedger;LResourceLedger$Value;)V" } : Jvm.MethodName)) ∈ lw_all := lw_g (lw_at lw_m9 12 rfl) rfl
theorem q2197 : (Jvm.Cond.static ({ cls := "ResourceLedger", name := "write", desc := "(LResourceLedger;LResourceLedger$Value;)V" } : Jvm.MethodName)) ∈ lw_all := lw_g (lw_at lw_m9 13 rfl) rfl
theorem q2198 : (Jvm.Cond.code ({ cls := "ResourceLedger", name := "write", desc := "(LResourceLedger;LResourceLedger$Value;)V" } : Jvm.MethodName) prog_1_method_83_code (3 : Nat) (Option.none : Option Jvm.ClassFile.FieldType)) ∈ lw_all := lw_g (lw_at lw_m9 14 rfl) rfl
theorem q2199 : (Jvm.Cond.methodLink "ResourceLedger" (875 : Nat) ({ cls := "ResourceLedger", name := "show", desc := "(JI)V" } : Jvm.MethodName)) ∈ lw_all := lw_g (lw_at lw_m9 15 rfl) rfl
theorem q2200 : (Jvm.Cond.privateMethod ({ cls := "ResourceLedger", name := "show", desc := "(JI)V" } : Jvm.MethodName)) ∈ lw_tbl := lw_at lw_m9 16 rfl
theorem q2201 : (Jvm.Cond.instanceMethod ({ cls := "ResourceLedger", name := "show", desc := "(JI)V" } : Jvm.MethodName)) ∈ lw_all := lw_g (lw_at lw_m9 17 rfl) rfl
theorem q2202 : (Jvm.Cond.code ({ cls := "ResourceLedger", name := "show", desc := "(JI)V" } : Jvm.MethodName) prog_1_method_82_code (5 : Nat) (Option.none : Option Jvm.ClassFile.FieldType)) ∈ lw_all := lw_g (lw_at lw_m9 18 rfl) rfl
theorem q2204 : (Jvm.Cond.instanceMethod ({ cls := "ResourceLedger", name := "byteOf", desc := "(I)I" } : Jvm.MethodName)) ∈ lw_all := lw_g (lw_at lw_m9 20 rfl) rfl
theorem q2205 : (Jvm.Cond.selects "ResourceLedger" ({ cls := "ResourceLedger", name := "byteOf", desc := "(I)I" } : Jvm.MethodName) ({ cls := "ResourceLedger", name := "byteOf", desc := "(I)I" } : Jvm.MethodName)) ∈ lw_all := lw_g (lw_at lw_m9 21 rfl) rfl
theorem q2206 : (Jvm.Cond.code ({ cls := "ResourceLedger", name := "byteOf", desc := "(I)I" } : Jvm.MethodName) prog_1_method_85_code (2 : Nat) (Option.some Jvm.ClassFile.FieldType.int)) ∈ lw_all := lw_g (lw_at lw_m9 22 rfl) rfl
theorem q2208 : (Jvm.Cond.instanceMethod ({ cls := "ResourceLedger", name := "root", desc := "(I)J" } : Jvm.MethodName)) ∈ lw_all := lw_g (lw_at lw_m9 24 rfl) rfl
theorem q2209 : (Jvm.Cond.selects "ResourceLedger" ({ cls := "ResourceLedger", name := "root", desc := "(I)J" } : Jvm.MethodName) ({ cls := "ResourceLedger", name := "root", desc := "(I)J" } : Jvm.MethodName)) ∈ lw_all := lw_g (lw_at lw_m9 25 rfl) rfl
theorem q2210 : (Jvm.Cond.code ({ cls := "ResourceLedger", name := "root", desc := "(I)J" } : Jvm.MethodName) prog_1_method_90_code (2 : Nat) (Option.some Jvm.ClassFile.FieldType.long)) ∈ lw_all := lw_g (lw_at lw_m9 26 rfl) rfl
theorem q2211 : (Jvm.Cond.methodLink "ResourceLedger" (904 : Nat) ({ cls := "ResourceLedger$HashTree", name := "begin", desc := "()V" } : Jvm.MethodName)) ∈ lw_all := lw_g (lw_at lw_m9 27 rfl) rfl
theorem q2215 : (Jvm.Cond.methodLink "ResourceLedger" (905 : Nat) ({ cls := "ResourceLedger", name := "plantAll", desc := "()V" } : Jvm.MethodName)) ∈ lw_all := lw_g (lw_at lw_m9 31 rfl) rfl
theorem q2216 : (Jvm.Cond.privateMethod ({ cls := "ResourceLedger", name := "plantAll", desc := "()V" } : Jvm.MethodName)) ∈ lw_tbl := lw_at lw_m9 32 rfl
theorem q2217 : (Jvm.Cond.instanceMethod ({ cls := "ResourceLedger", name := "plantAll", desc := "()V" } : Jvm.MethodName)) ∈ lw_all := lw_g (lw_at lw_m9 33 rfl) rfl
theorem q2218 : (Jvm.Cond.code ({ cls := "ResourceLedger", name := "plantAll", desc := "()V" } : Jvm.MethodName) prog_1_method_89_code (3 : Nat) (Option.none : Option Jvm.ClassFile.FieldType)) ∈ lw_all := lw_g (lw_at lw_m9 34 rfl) rfl
theorem q2219 : (Jvm.Cond.methodLink "ResourceLedger" (897 : Nat) ({ cls := "ResourceLedger", name := "isLess", desc := "(LResourceLedger$Entry;LResourceLedger$Entry;)Z" } : Jvm.MethodName)) ∈ lw_all := lw_g (lw_at lw_m9 35 rfl) rfl
theorem q2220 : (Jvm.Cond.static ({ cls := "ResourceLedger", name := "isLess", desc := "(LResourceLedger$Entry;LResourceLedger$Entry;)Z" } : Jvm.MethodName)) ∈ lw_all := lw_g (lw_at lw_m9 36 rfl) rfl
theorem q2221 : (Jvm.Cond.code ({ cls := "ResourceLedger", name := "isLess", desc := "(LResourceLedger$Entry;LResourceLedger$Entry;)Z" } : Jvm.MethodName) prog_1_method_88_code (2 : Nat) (Option.some Jvm.ClassFile.FieldType.boolean)) ∈ lw_all := lw_g (lw_at lw_m9 37 rfl) rfl
theorem q2222 : (Jvm.Cond.methodLink "ResourceLedger" (901 : Nat) ({ cls := "ResourceLedger", name := "plant", desc := "(LResourceLedger$Entry;)V" } : Jvm.MethodName)) ∈ lw_all := lw_g (lw_at lw_m9 38 rfl) rfl
theorem q2223 : (Jvm.Cond.privateMethod ({ cls := "ResourceLedger", name := "plant", desc := "(LResourceLedger$Entry;)V" } : Jvm.MethodName)) ∈ lw_tbl := lw_at lw_m9 39 rfl
theorem q2224 : (Jvm.Cond.instanceMethod ({ cls := "ResourceLedger", name := "plant", desc := "(LResourceLedger$Entry;)V" } : Jvm.MethodName)) ∈ lw_all := lw_g (lw_at lw_m9 40 rfl) rfl
theorem q2225 : (Jvm.Cond.code ({ cls := "ResourceLedger", name := "plant", desc := "(LResourceLedger$Entry;)V" } : Jvm.MethodName) prog_1_method_87_code (6 : Nat) (Option.none : Option Jvm.ClassFile.FieldType)) ∈ lw_all := lw_g (lw_at lw_m9 41 rfl) rfl
theorem q2226 : (Jvm.Cond.methodLink "ResourceLedger" (884 : Nat) ({ cls := "ResourceLedger$HashTree$Digest", name := "addLong", desc := "(J)V" } : Jvm.MethodName)) ∈ lw_all := lw_g (lw_at lw_m9 42 rfl) rfl
theorem q2227 : (Jvm.Cond.methodLink "ResourceLedger" (887 : Nat) ({ cls := "ResourceLedger$HashTree", name := "key", desc := "(JJJJ)V" } : Jvm.MethodName)) ∈ lw_all := lw_g (lw_at lw_m9 43 rfl) rfl
theorem q2235 : (Jvm.Cond.methodLink "ResourceLedger" (891 : Nat) ({ cls := "ResourceLedger", name := "digestBytes", desc := "([BI)V" } : Jvm.MethodName)) ∈ lw_all := lw_g (lw_at lw_m9 51 rfl) rfl
theorem q2236 : (Jvm.Cond.privateMethod ({ cls := "ResourceLedger", name := "digestBytes", desc := "([BI)V" } : Jvm.MethodName)) ∈ lw_tbl := lw_at lw_m9 52 rfl
theorem q2237 : (Jvm.Cond.instanceMethod ({ cls := "ResourceLedger", name := "digestBytes", desc := "([BI)V" } : Jvm.MethodName)) ∈ lw_all := lw_g (lw_at lw_m9 53 rfl) rfl
theorem q2238 : (Jvm.Cond.code ({ cls := "ResourceLedger", name := "digestBytes", desc := "([BI)V" } : Jvm.MethodName) prog_1_method_86_code (5 : Nat) (Option.none : Option Jvm.ClassFile.FieldType)) ∈ lw_all := lw_g (lw_at lw_m9 54 rfl) rfl
theorem q2239 : (Jvm.Cond.methodLink "ResourceLedger" (895 : Nat) ({ cls := "ResourceLedger$HashTree", name := "set", desc := "(JJJJ)I" } : Jvm.MethodName)) ∈ lw_all := lw_g (lw_at lw_m9 55 rfl) rfl
theorem q2292 : (Jvm.Cond.methodLink "ResourceLedger" (908 : Nat) ({ cls := "ResourceLedger$HashTree", name := "root", desc := "(I)J" } : Jvm.MethodName)) ∈ lw_all := lw_g (lw_at lw_m9 108 rfl) rfl
theorem q2329 : (Jvm.Cond.instanceMethod ({ cls := "ResourceLedger", name := "slips", desc := "()I" } : Jvm.MethodName)) ∈ lw_all := lw_g (lw_at lw_m9 145 rfl) rfl
theorem q2330 : (Jvm.Cond.selects "ResourceLedger" ({ cls := "ResourceLedger", name := "slips", desc := "()I" } : Jvm.MethodName) ({ cls := "ResourceLedger", name := "slips", desc := "()I" } : Jvm.MethodName)) ∈ lw_all := lw_g (lw_at lw_m9 146 rfl) rfl
theorem q2331 : (Jvm.Cond.code ({ cls := "ResourceLedger", name := "slips", desc := "()I" } : Jvm.MethodName) prog_1_method_91_code (1 : Nat) (Option.some Jvm.ClassFile.FieldType.int)) ∈ lw_all := lw_g (lw_at lw_m9 147 rfl) rfl
theorem in_X1 : ∀ w ∈ wsX10, w ∈ lw_all := lw_in wsX10 [1340, 1342, 1344, 1346, 1348, 1350, 1352, 1354, 1356, 1358, 1360, 1362, 1364, 1366, 1368, 1370, 1372, 1374, 1376, 1378, 1380, 1382, 1384, 1386, 1388, 1390, 1392, 1394, 1396, 1398, 1400, 1402, 1404, 1406] (by decide +kernel) (by decide +kernel)
end
section
-- ResourceLedger$Module
set_option maxRecDepth 100000
def RX2 : String := "ResourceLedger$Module"
def TX2 : u_T := fun k => match k with
  | 0 => ("ResourceLedger$Module", "tables", "LResourceLedger$Tables;", true)
  | 1 => ("ResourceLedger$Module", "bytes", "[B", true)
  | 2 => ("ResourceLedger$Module", "size", "I", false)
  | _ => ("ResourceLedger$Module", "depths", "[I", true)
def tyX2 : Nat → FieldType := fun k => match k with
  | 0 => .object "ResourceLedger$Tables"
  | 1 => .array .byte
  | 2 => .int
  | _ => .array .int
abbrev wsX20 : List Cond := u_ws RX2 TX2 4
theorem nmX2 : ∀ a, a < 4 → ∀ b, b < 4 → a ≠ b → (TX2 a).2.1 ≠ (TX2 b).2.1 := by decide +kernel
theorem tyX2_ok : ∀ k, k < 4 → parseFieldDescriptor (TX2 k).2.2.1 = some (tyX2 k) := by decide +kernel
abbrev cX2_init : ByteArray := prog_14_method_1_code
def yX2_init : MethodName := ⟨RX2, "<init>", "()V"⟩
theorem q266 : (Jvm.Cond.initialized "ResourceLedger$Module") ∈ lw_all := lw_g (lw_at lw_m1 2 rfl) rfl
theorem q315 : (Jvm.Cond.instantiable "ResourceLedger$Module" (4 : Nat)) ∈ lw_all := lw_g (lw_at lw_m1 51 rfl) rfl
theorem q317 : (Jvm.Cond.instanceMethod ({ cls := "ResourceLedger$Module", name := "<init>", desc := "()V" } : Jvm.MethodName)) ∈ lw_all := lw_g (lw_at lw_m1 53 rfl) rfl
theorem q318 : (Jvm.Cond.code ({ cls := "ResourceLedger$Module", name := "<init>", desc := "()V" } : Jvm.MethodName) prog_14_method_1_code (1 : Nat) (Option.none : Option Jvm.ClassFile.FieldType)) ∈ lw_all := lw_g (lw_at lw_m1 54 rfl) rfl
theorem q319 : (Jvm.Cond.methodLink "ResourceLedger$Module" (1 : Nat) ({ cls := "java/lang/Object", name := "<init>", desc := "()V" } : Jvm.MethodName)) ∈ lw_all := lw_g (lw_at lw_m1 55 rfl) rfl
theorem q320 : (Jvm.Cond.classLink "ResourceLedger$Module" (7 : Nat) "ResourceLedger$Tables") ∈ lw_all := lw_g (lw_at lw_m1 56 rfl) rfl
theorem q322 : (Jvm.Cond.methodLink "ResourceLedger$Module" (9 : Nat) ({ cls := "ResourceLedger$Tables", name := "<init>", desc := "()V" } : Jvm.MethodName)) ∈ lw_all := lw_g (lw_at lw_m1 58 rfl) rfl
theorem q537 : (Jvm.Cond.fieldLink "ResourceLedger$Module" (10 : Nat) "ResourceLedger$Module" "tables" "LResourceLedger$Tables;") ∈ lw_all := lw_g (lw_at lw_m2 33 rfl) rfl
theorem q539 : (Jvm.Cond.fieldLink "ResourceLedger$Module" (16 : Nat) "ResourceLedger$Module" "bytes" "[B") ∈ lw_all := lw_g (lw_at lw_m2 35 rfl) rfl
theorem q542 : (Jvm.Cond.fieldLink "ResourceLedger$Module" (20 : Nat) "ResourceLedger$Module" "depths" "[I") ∈ lw_all := lw_g (lw_at lw_m2 38 rfl) rfl
theorem q544 : (Jvm.Cond.laysFinal "ResourceLedger$Module" "ResourceLedger$Module" "tables" "LResourceLedger$Tables;") ∈ lw_all := lw_g (lw_at lw_m2 40 rfl) rfl
theorem q545 : (Jvm.Cond.soleField "ResourceLedger$Module" "tables") ∈ lw_all := lw_g (lw_at lw_m2 41 rfl) rfl
theorem q546 : (Jvm.Cond.laysFinal "ResourceLedger$Module" "ResourceLedger$Module" "bytes" "[B") ∈ lw_all := lw_g (lw_at lw_m2 42 rfl) rfl
theorem q547 : (Jvm.Cond.soleField "ResourceLedger$Module" "bytes") ∈ lw_all := lw_g (lw_at lw_m2 43 rfl) rfl
theorem q548 : (Jvm.Cond.lays "ResourceLedger$Module" "ResourceLedger$Module" "size" "I") ∈ lw_all := lw_g (lw_at lw_m2 44 rfl) rfl
theorem q549 : (Jvm.Cond.soleField "ResourceLedger$Module" "size") ∈ lw_all := lw_g (lw_at lw_m2 45 rfl) rfl
theorem q550 : (Jvm.Cond.laysFinal "ResourceLedger$Module" "ResourceLedger$Module" "depths" "[I") ∈ lw_all := lw_g (lw_at lw_m2 46 rfl) rfl
theorem q551 : (Jvm.Cond.soleField "ResourceLedger$Module" "depths") ∈ lw_all := lw_g (lw_at lw_m2 47 rfl) rfl
theorem q552 : (Jvm.Cond.superclass "ResourceLedger$Module" "java/lang/Object") ∈ lw_all := lw_g (lw_at lw_m2 48 rfl) rfl
theorem in_X2 : ∀ w ∈ wsX20, w ∈ lw_all := lw_in wsX20 [544, 546, 548, 550] (by decide +kernel) (by decide +kernel)
end
section
-- ResourceLedger$Tables
set_option maxRecDepth 100000
def RX3 : String := "ResourceLedger$Tables"
def TX3 : u_T := fun k => match k with
  | 0 => ("ResourceLedger$Tables", "number", "I", false)
  | 1 => ("ResourceLedger$Tables", "structures", "[LResourceLedger$Structure;", true)
  | 2 => ("ResourceLedger$Tables", "functions", "[LResourceLedger$Function;", true)
  | 3 => ("ResourceLedger$Tables", "types", "LResourceLedger$Types;", true)
  | 4 => ("ResourceLedger$Tables", "elements", "LResourceLedger$Span;", true)
  | 5 => ("ResourceLedger$Tables", "code", "LResourceLedger$Code;", true)
  | 6 => ("ResourceLedger$Tables", "own", "I", false)
  | 7 => ("ResourceLedger$Tables", "foreign", "I", false)
  | 8 => ("ResourceLedger$Tables", "ownFunctions", "I", false)
  | _ => ("ResourceLedger$Tables", "foreignFunctions", "I", false)
def tyX3 : Nat → FieldType := fun k => match k with
  | 0 => .int
  | 1 => .array (.object "ResourceLedger$Structure")
  | 2 => .array (.object "ResourceLedger$Function")
  | 3 => .object "ResourceLedger$Types"
  | 4 => .object "ResourceLedger$Span"
  | 5 => .object "ResourceLedger$Code"
  | 6 => .int
  | 7 => .int
  | 8 => .int
  | _ => .int
abbrev wsX30 : List Cond := u_ws RX3 TX3 10
theorem nmX3 : ∀ a, a < 10 → ∀ b, b < 10 → a ≠ b → (TX3 a).2.1 ≠ (TX3 b).2.1 := by decide +kernel
theorem tyX3_ok : ∀ k, k < 10 → parseFieldDescriptor (TX3 k).2.2.1 = some (tyX3 k) := by decide +kernel
abbrev cX3_init : ByteArray := prog_19_method_1_code
def yX3_init : MethodName := ⟨RX3, "<init>", "()V"⟩
abbrev cX3_clear : ByteArray := prog_19_method_2_code
def yX3_clear : MethodName := ⟨RX3, "clear", "()V"⟩
abbrev cX3_structureCount : ByteArray := prog_19_method_3_code
def yX3_structureCount : MethodName := ⟨RX3, "structureCount", "()I"⟩
abbrev cX3_functionCount : ByteArray := prog_19_method_4_code
def yX3_functionCount : MethodName := ⟨RX3, "functionCount", "()I"⟩
abbrev cX3_functionAt : ByteArray := prog_19_method_5_code
def yX3_functionAt : MethodName := ⟨RX3, "functionAt", "(I)LResourceLedger$Function;"⟩
abbrev cX3_structureAt : ByteArray := prog_19_method_6_code
def yX3_structureAt : MethodName := ⟨RX3, "structureAt", "(I)LResourceLedger$Structure;"⟩
theorem q267 : (Jvm.Cond.initialized "ResourceLedger$Tables") ∈ lw_all := lw_g (lw_at lw_m1 3 rfl) rfl
theorem q321 : (Jvm.Cond.instantiable "ResourceLedger$Tables" (10 : Nat)) ∈ lw_all := lw_g (lw_at lw_m1 57 rfl) rfl
theorem q323 : (Jvm.Cond.instanceMethod ({ cls := "ResourceLedger$Tables", name := "<init>", desc := "()V" } : Jvm.MethodName)) ∈ lw_all := lw_g (lw_at lw_m1 59 rfl) rfl
theorem q324 : (Jvm.Cond.code ({ cls := "ResourceLedger$Tables", name := "<init>", desc := "()V" } : Jvm.MethodName) prog_19_method_1_code (2 : Nat) (Option.none : Option Jvm.ClassFile.FieldType)) ∈ lw_all := lw_g (lw_at lw_m1 60 rfl) rfl
theorem q325 : (Jvm.Cond.methodLink "ResourceLedger$Tables" (3 : Nat) ({ cls := "java/lang/Object", name := "<init>", desc := "()V" } : Jvm.MethodName)) ∈ lw_all := lw_g (lw_at lw_m1 61 rfl) rfl
theorem q326 : (Jvm.Cond.classLink "ResourceLedger$Tables" (9 : Nat) "ResourceLedger$Structure") ∈ lw_all := lw_g (lw_at lw_m1 62 rfl) rfl
theorem q328 : (Jvm.Cond.classLink "ResourceLedger$Tables" (17 : Nat) "ResourceLedger$Function") ∈ lw_all := lw_g (lw_at lw_m1 64 rfl) rfl
theorem q330 : (Jvm.Cond.classLink "ResourceLedger$Tables" (23 : Nat) "ResourceLedger$Types") ∈ lw_all := lw_g (lw_at lw_m1 66 rfl) rfl
theorem q332 : (Jvm.Cond.methodLinkNest "ResourceLedger$Tables" (25 : Nat) ({ cls := "ResourceLedger$Types", name := "<init>", desc := "()V" } : Jvm.MethodName) "ResourceLedger") ∈ lw_tbl := lw_at lw_m1 68 rfl
theorem q341 : (Jvm.Cond.fieldLinkNest "ResourceLedger$Tables" (46 : Nat) "ResourceLedger$Types" "size" "I" "ResourceLedger") ∈ lw_tbl := lw_at lw_m1 77 rfl
theorem q353 : (Jvm.Cond.classLink "ResourceLedger$Tables" (30 : Nat) "ResourceLedger$Span") ∈ lw_all := lw_g (lw_at lw_m1 89 rfl) rfl
theorem q355 : (Jvm.Cond.methodLinkNest "ResourceLedger$Tables" (32 : Nat) ({ cls := "ResourceLedger$Span", name := "<init>", desc := "()V" } : Jvm.MethodName) "ResourceLedger") ∈ lw_tbl := lw_at lw_m1 91 rfl
theorem q362 : (Jvm.Cond.fieldLinkNest "ResourceLedger$Tables" (63 : Nat) "ResourceLedger$Span" "count" "I" "ResourceLedger") ∈ lw_tbl := lw_at lw_m1 98 rfl
theorem q372 : (Jvm.Cond.classLink "ResourceLedger$Tables" (37 : Nat) "ResourceLedger$Code") ∈ lw_all := lw_g (lw_at lw_m1 108 rfl) rfl
theorem q374 : (Jvm.Cond.methodLinkNest "ResourceLedger$Tables" (39 : Nat) ({ cls := "ResourceLedger$Code", name := "<init>", desc := "()V" } : Jvm.MethodName) "ResourceLedger") ∈ lw_tbl := lw_at lw_m1 110 rfl
theorem q393 : (Jvm.Cond.fieldLinkNest "ResourceLedger$Tables" (50 : Nat) "ResourceLedger$Code" "size" "I" "ResourceLedger") ∈ lw_tbl := lw_at lw_m1 129 rfl
theorem q408 : (Jvm.Cond.methodLinkNest "ResourceLedger$Tables" (44 : Nat) ({ cls := "ResourceLedger$Structure", name := "<init>", desc := "()V" } : Jvm.MethodName) "ResourceLedger") ∈ lw_tbl := lw_at lw_m1 144 rfl
theorem q438 : (Jvm.Cond.methodLinkNest "ResourceLedger$Tables" (45 : Nat) ({ cls := "ResourceLedger$Function", name := "<init>", desc := "()V" } : Jvm.MethodName) "ResourceLedger") ∈ lw_tbl := lw_at lw_m1 174 rfl
theorem q486 : (Jvm.Cond.fieldLink "ResourceLedger$Tables" (11 : Nat) "ResourceLedger$Tables" "structures" "[LResourceLedger$Structure;") ∈ lw_all := lw_g (lw_at lw_m1 222 rfl) rfl
theorem q490 : (Jvm.Cond.fieldLink "ResourceLedger$Tables" (19 : Nat) "ResourceLedger$Tables" "functions" "[LResourceLedger$Function;") ∈ lw_all := lw_g (lw_at lw_m1 226 rfl) rfl
theorem q493 : (Jvm.Cond.fieldLink "ResourceLedger$Tables" (26 : Nat) "ResourceLedger$Tables" "types" "LResourceLedger$Types;") ∈ lw_all := lw_g (lw_at lw_m1 229 rfl) rfl
theorem q497 : (Jvm.Cond.fieldLink "ResourceLedger$Tables" (33 : Nat) "ResourceLedger$Tables" "elements" "LResourceLedger$Span;") ∈ lw_all := lw_g (lw_at lw_m1 233 rfl) rfl
theorem q500 : (Jvm.Cond.fieldLink "ResourceLedger$Tables" (40 : Nat) "ResourceLedger$Tables" "code" "LResourceLedger$Code;") ∈ lw_all := lw_g (lw_at lw_m1 236 rfl) rfl
theorem q504 : (Jvm.Cond.fieldLink "ResourceLedger$Tables" (51 : Nat) "ResourceLedger$Tables" "own" "I") ∈ lw_all := lw_g (lw_at lw_m2 0 rfl) rfl
theorem q507 : (Jvm.Cond.fieldLink "ResourceLedger$Tables" (54 : Nat) "ResourceLedger$Tables" "foreign" "I") ∈ lw_all := lw_g (lw_at lw_m2 3 rfl) rfl
theorem q510 : (Jvm.Cond.fieldLink "ResourceLedger$Tables" (57 : Nat) "ResourceLedger$Tables" "ownFunctions" "I") ∈ lw_all := lw_g (lw_at lw_m2 6 rfl) rfl
theorem q513 : (Jvm.Cond.fieldLink "ResourceLedger$Tables" (60 : Nat) "ResourceLedger$Tables" "foreignFunctions" "I") ∈ lw_all := lw_g (lw_at lw_m2 9 rfl) rfl
theorem q516 : (Jvm.Cond.lays "ResourceLedger$Tables" "ResourceLedger$Tables" "number" "I") ∈ lw_all := lw_g (lw_at lw_m2 12 rfl) rfl
theorem q517 : (Jvm.Cond.soleField "ResourceLedger$Tables" "number") ∈ lw_all := lw_g (lw_at lw_m2 13 rfl) rfl
theorem q518 : (Jvm.Cond.laysFinal "ResourceLedger$Tables" "ResourceLedger$Tables" "structures" "[LResourceLedger$Structure;") ∈ lw_all := lw_g (lw_at lw_m2 14 rfl) rfl
theorem q519 : (Jvm.Cond.soleField "ResourceLedger$Tables" "structures") ∈ lw_all := lw_g (lw_at lw_m2 15 rfl) rfl
theorem q520 : (Jvm.Cond.laysFinal "ResourceLedger$Tables" "ResourceLedger$Tables" "functions" "[LResourceLedger$Function;") ∈ lw_all := lw_g (lw_at lw_m2 16 rfl) rfl
theorem q521 : (Jvm.Cond.soleField "ResourceLedger$Tables" "functions") ∈ lw_all := lw_g (lw_at lw_m2 17 rfl) rfl
theorem q522 : (Jvm.Cond.laysFinal "ResourceLedger$Tables" "ResourceLedger$Tables" "types" "LResourceLedger$Types;") ∈ lw_all := lw_g (lw_at lw_m2 18 rfl) rfl
theorem q523 : (Jvm.Cond.soleField "ResourceLedger$Tables" "types") ∈ lw_all := lw_g (lw_at lw_m2 19 rfl) rfl
theorem q524 : (Jvm.Cond.laysFinal "ResourceLedger$Tables" "ResourceLedger$Tables" "elements" "LResourceLedger$Span;") ∈ lw_all := lw_g (lw_at lw_m2 20 rfl) rfl
theorem q525 : (Jvm.Cond.soleField "ResourceLedger$Tables" "elements") ∈ lw_all := lw_g (lw_at lw_m2 21 rfl) rfl
theorem q526 : (Jvm.Cond.laysFinal "ResourceLedger$Tables" "ResourceLedger$Tables" "code" "LResourceLedger$Code;") ∈ lw_all := lw_g (lw_at lw_m2 22 rfl) rfl
theorem q527 : (Jvm.Cond.soleField "ResourceLedger$Tables" "code") ∈ lw_all := lw_g (lw_at lw_m2 23 rfl) rfl
theorem q528 : (Jvm.Cond.lays "ResourceLedger$Tables" "ResourceLedger$Tables" "own" "I") ∈ lw_all := lw_g (lw_at lw_m2 24 rfl) rfl
theorem q529 : (Jvm.Cond.soleField "ResourceLedger$Tables" "own") ∈ lw_all := lw_g (lw_at lw_m2 25 rfl) rfl
theorem q530 : (Jvm.Cond.lays "ResourceLedger$Tables" "ResourceLedger$Tables" "foreign" "I") ∈ lw_all := lw_g (lw_at lw_m2 26 rfl) rfl
theorem q531 : (Jvm.Cond.soleField "ResourceLedger$Tables" "foreign") ∈ lw_all := lw_g (lw_at lw_m2 27 rfl) rfl
theorem q532 : (Jvm.Cond.lays "ResourceLedger$Tables" "ResourceLedger$Tables" "ownFunctions" "I") ∈ lw_all := lw_g (lw_at lw_m2 28 rfl) rfl
theorem q533 : (Jvm.Cond.soleField "ResourceLedger$Tables" "ownFunctions") ∈ lw_all := lw_g (lw_at lw_m2 29 rfl) rfl
theorem q534 : (Jvm.Cond.lays "ResourceLedger$Tables" "ResourceLedger$Tables" "foreignFunctions" "I") ∈ lw_all := lw_g (lw_at lw_m2 30 rfl) rfl
theorem q535 : (Jvm.Cond.soleField "ResourceLedger$Tables" "foreignFunctions") ∈ lw_all := lw_g (lw_at lw_m2 31 rfl) rfl
theorem q536 : (Jvm.Cond.superclass "ResourceLedger$Tables" "java/lang/Object") ∈ lw_all := lw_g (lw_at lw_m2 32 rfl) rfl
theorem q1163 : (Jvm.Cond.instanceMethod ({ cls := "ResourceLedger$Tables", name := "clear", desc := "()V" } : Jvm.MethodName)) ∈ lw_all := lw_g (lw_at lw_m4 179 rfl) rfl
theorem q1164 : (Jvm.Cond.selects "ResourceLedger$Tables" ({ cls := "ResourceLedger$Tables", name := "clear", desc := "()V" } : Jvm.MethodName) ({ cls := "ResourceLedger$Tables", name := "clear", desc := "()V" } : Jvm.MethodName)) ∈ lw_all := lw_g (lw_at lw_m4 180 rfl) rfl
theorem q1165 : (Jvm.Cond.code ({ cls := "ResourceLedger$Tables", name := "clear", desc := "()V" } : Jvm.MethodName) prog_19_method_2_code (1 : Nat) (Option.none : Option Jvm.ClassFile.FieldType)) ∈ lw_all := lw_g (lw_at lw_m4 181 rfl) rfl
theorem q1269 : (Jvm.Cond.instanceMethod ({ cls := "ResourceLedger$Tables", name := "structureCount", desc := "()I" } : Jvm.MethodName)) ∈ lw_all := lw_g (lw_at lw_m5 45 rfl) rfl
theorem q1270 : (Jvm.Cond.selects "ResourceLedger$Tables" ({ cls := "ResourceLedger$Tables", name := "structureCount", desc := "()I" } : Jvm.MethodName) ({ cls := "ResourceLedger$Tables", name := "structureCount", desc := "()I" } : Jvm.MethodName)) ∈ lw_all := lw_g (lw_at lw_m5 46 rfl) rfl
theorem q1271 : (Jvm.Cond.code ({ cls := "ResourceLedger$Tables", name := "structureCount", desc := "()I" } : Jvm.MethodName) prog_19_method_3_code (1 : Nat) (Option.some Jvm.ClassFile.FieldType.int)) ∈ lw_all := lw_g (lw_at lw_m5 47 rfl) rfl
theorem q1291 : (Jvm.Cond.instanceMethod ({ cls := "ResourceLedger$Tables", name := "functionCount", desc := "()I" } : Jvm.MethodName)) ∈ lw_all := lw_g (lw_at lw_m5 67 rfl) rfl
theorem q1292 : (Jvm.Cond.selects "ResourceLedger$Tables" ({ cls := "ResourceLedger$Tables", name := "functionCount", desc := "()I" } : Jvm.MethodName) ({ cls := "ResourceLedger$Tables", name := "functionCount", desc := "()I" } : Jvm.MethodName)) ∈ lw_all := lw_g (lw_at lw_m5 68 rfl) rfl
theorem q1293 : (Jvm.Cond.code ({ cls := "ResourceLedger$Tables", name := "functionCount", desc := "()I" } : Jvm.MethodName) prog_19_method_4_code (1 : Nat) (Option.some Jvm.ClassFile.FieldType.int)) ∈ lw_all := lw_g (lw_at lw_m5 69 rfl) rfl
theorem q1618 : (Jvm.Cond.instanceMethod ({ cls := "ResourceLedger$Tables", name := "functionAt", desc := "(I)LResourceLedger$Function;" } : Jvm.MethodName)) ∈ lw_all := lw_g (lw_at lw_m6 154 rfl) rfl
theorem q1619 : (Jvm.Cond.selects "ResourceLedger$Tables" ({ cls := "ResourceLedger$Tables", name := "functionAt", desc := "(I)LResourceLedger$Function;" } : Jvm.MethodName) ({ cls := "ResourceLedger$Tables", name := "functionAt", desc := "(I)LResourceLedger$Function;" } : Jvm.MethodName)) ∈ lw_all := lw_g (lw_at lw_m6 155 rfl) rfl
theorem q1620 : (Jvm.Cond.code ({ cls := "ResourceLedger$Tables", name := "functionAt", desc := "(I)LResourceLedger$Function;" } : Jvm.MethodName) prog_19_method_5_code (2 : Nat) (Option.some (Jvm.ClassFile.FieldType.object "ResourceLedger$Function"))) ∈ lw_all := lw_g (lw_at lw_m6 156 rfl) rfl
theorem q1826 : (Jvm.Cond.instanceMethod ({ cls := "ResourceLedger$Tables", name := "structureAt", desc := "(I)LResourceLedger$Structure;" } : Jvm.MethodName)) ∈ lw_all := lw_g (lw_at lw_m7 122 rfl) rfl
theorem q1827 : (Jvm.Cond.selects "ResourceLedger$Tables" ({ cls := "ResourceLedger$Tables", name := "structureAt", desc := "(I)LResourceLedger$Structure;" } : Jvm.MethodName) ({ cls := "ResourceLedger$Tables", name := "structureAt", desc := "(I)LResourceLedger$Structure;" } : Jvm.MethodName)) ∈ lw_all := lw_g (lw_at lw_m7 123 rfl) rfl
theorem q1828 : (Jvm.Cond.code ({ cls := "ResourceLedger$Tables", name := "structureAt", desc := "(I)LResourceLedger$Structure;" } : Jvm.MethodName) prog_19_method_6_code (2 : Nat) (Option.some (Jvm.ClassFile.FieldType.object "ResourceLedger$Structure"))) ∈ lw_all := lw_g (lw_at lw_m7 124 rfl) rfl
theorem in_X3 : ∀ w ∈ wsX30, w ∈ lw_all := lw_in wsX30 [516, 518, 520, 522, 524, 526, 528, 530, 532, 534] (by decide +kernel) (by decide +kernel)
end
section
-- ResourceLedger$Types
set_option maxRecDepth 100000
def RX4 : String := "ResourceLedger$Types"
def TX4 : u_T := fun k => match k with
  | 0 => ("ResourceLedger$Types", "row", "[J", true)
  | 1 => ("ResourceLedger$Types", "places", "[I", true)
  | _ => ("ResourceLedger$Types", "size", "I", false)
def tyX4 : Nat → FieldType := fun k => match k with
  | 0 => .array .long
  | 1 => .array .int
  | _ => .int
abbrev wsX40 : List Cond := u_ws RX4 TX4 3
theorem nmX4 : ∀ a, a < 3 → ∀ b, b < 3 → a ≠ b → (TX4 a).2.1 ≠ (TX4 b).2.1 := by decide +kernel
theorem tyX4_ok : ∀ k, k < 3 → parseFieldDescriptor (TX4 k).2.2.1 = some (tyX4 k) := by decide +kernel
abbrev cX4_init : ByteArray := prog_22_method_1_code
def yX4_init : MethodName := ⟨RX4, "<init>", "()V"⟩
abbrev cX4_add : ByteArray := prog_22_method_2_code
def yX4_add : MethodName := ⟨RX4, "add", "(JI)V"⟩
theorem q268 : (Jvm.Cond.initialized "ResourceLedger$Types") ∈ lw_all := lw_g (lw_at lw_m1 4 rfl) rfl
theorem q331 : (Jvm.Cond.instantiable "ResourceLedger$Types" (3 : Nat)) ∈ lw_all := lw_g (lw_at lw_m1 67 rfl) rfl
theorem q333 : (Jvm.Cond.instanceMethod ({ cls := "ResourceLedger$Types", name := "<init>", desc := "()V" } : Jvm.MethodName)) ∈ lw_all := lw_g (lw_at lw_m1 69 rfl) rfl
theorem q334 : (Jvm.Cond.code ({ cls := "ResourceLedger$Types", name := "<init>", desc := "()V" } : Jvm.MethodName) prog_22_method_1_code (1 : Nat) (Option.none : Option Jvm.ClassFile.FieldType)) ∈ lw_all := lw_g (lw_at lw_m1 70 rfl) rfl
theorem q335 : (Jvm.Cond.methodLink "ResourceLedger$Types" (1 : Nat) ({ cls := "java/lang/Object", name := "<init>", desc := "()V" } : Jvm.MethodName)) ∈ lw_all := lw_g (lw_at lw_m1 71 rfl) rfl
theorem q336 : (Jvm.Cond.fieldLink "ResourceLedger$Types" (7 : Nat) "ResourceLedger$Types" "row" "[J") ∈ lw_all := lw_g (lw_at lw_m1 72 rfl) rfl
theorem q339 : (Jvm.Cond.fieldLink "ResourceLedger$Types" (13 : Nat) "ResourceLedger$Types" "places" "[I") ∈ lw_all := lw_g (lw_at lw_m1 75 rfl) rfl
theorem q342 : (Jvm.Cond.fieldLink "ResourceLedger$Types" (17 : Nat) "ResourceLedger$Types" "size" "I") ∈ lw_all := lw_g (lw_at lw_m1 78 rfl) rfl
theorem q344 : (Jvm.Cond.laysFinal "ResourceLedger$Types" "ResourceLedger$Types" "row" "[J") ∈ lw_all := lw_g (lw_at lw_m1 80 rfl) rfl
theorem q345 : (Jvm.Cond.soleField "ResourceLedger$Types" "row") ∈ lw_all := lw_g (lw_at lw_m1 81 rfl) rfl
theorem q346 : (Jvm.Cond.laysFinal "ResourceLedger$Types" "ResourceLedger$Types" "places" "[I") ∈ lw_all := lw_g (lw_at lw_m1 82 rfl) rfl
theorem q347 : (Jvm.Cond.soleField "ResourceLedger$Types" "places") ∈ lw_all := lw_g (lw_at lw_m1 83 rfl) rfl
theorem q348 : (Jvm.Cond.lays "ResourceLedger$Types" "ResourceLedger$Types" "size" "I") ∈ lw_all := lw_g (lw_at lw_m1 84 rfl) rfl
theorem q349 : (Jvm.Cond.soleField "ResourceLedger$Types" "size") ∈ lw_all := lw_g (lw_at lw_m1 85 rfl) rfl
theorem q350 : (Jvm.Cond.superclass "ResourceLedger$Types" "java/lang/Object") ∈ lw_all := lw_g (lw_at lw_m1 86 rfl) rfl
theorem q1209 : (Jvm.Cond.instanceMethod ({ cls := "ResourceLedger$Types", name := "add", desc := "(JI)V" } : Jvm.MethodName)) ∈ lw_all := lw_g (lw_at lw_m4 225 rfl) rfl
theorem q1210 : (Jvm.Cond.selects "ResourceLedger$Types" ({ cls := "ResourceLedger$Types", name := "add", desc := "(JI)V" } : Jvm.MethodName) ({ cls := "ResourceLedger$Types", name := "add", desc := "(JI)V" } : Jvm.MethodName)) ∈ lw_all := lw_g (lw_at lw_m4 226 rfl) rfl
theorem q1211 : (Jvm.Cond.code ({ cls := "ResourceLedger$Types", name := "add", desc := "(JI)V" } : Jvm.MethodName) prog_22_method_2_code (4 : Nat) (Option.none : Option Jvm.ClassFile.FieldType)) ∈ lw_all := lw_g (lw_at lw_m4 227 rfl) rfl
theorem in_X4 : ∀ w ∈ wsX40, w ∈ lw_all := lw_in wsX40 [344, 346, 348] (by decide +kernel) (by decide +kernel)
end
section
-- ResourceLedger$Span
set_option maxRecDepth 100000
def RX5 : String := "ResourceLedger$Span"
def TX5 : u_T := fun k => match k with
  | 0 => ("ResourceLedger$Span", "from", "I", false)
  | _ => ("ResourceLedger$Span", "count", "I", false)
def tyX5 : Nat → FieldType := fun k => match k with
  | 0 => .int
  | _ => .int
abbrev wsX50 : List Cond := u_ws RX5 TX5 2
theorem nmX5 : ∀ a, a < 2 → ∀ b, b < 2 → a ≠ b → (TX5 a).2.1 ≠ (TX5 b).2.1 := by decide +kernel
theorem tyX5_ok : ∀ k, k < 2 → parseFieldDescriptor (TX5 k).2.2.1 = some (tyX5 k) := by decide +kernel
abbrev cX5_init : ByteArray := prog_17_method_1_code
def yX5_init : MethodName := ⟨RX5, "<init>", "()V"⟩
abbrev cX5_get : ByteArray := prog_17_method_2_code
def yX5_get : MethodName := ⟨RX5, "get", "(LResourceLedger$Types;I)J"⟩
theorem q269 : (Jvm.Cond.initialized "ResourceLedger$Span") ∈ lw_all := lw_g (lw_at lw_m1 5 rfl) rfl
theorem q337 : (Jvm.Cond.fieldLinkNest "ResourceLedger$Span" (13 : Nat) "ResourceLedger$Types" "row" "[J" "ResourceLedger") ∈ lw_tbl := lw_at lw_m1 73 rfl
theorem q354 : (Jvm.Cond.instantiable "ResourceLedger$Span" (2 : Nat)) ∈ lw_all := lw_g (lw_at lw_m1 90 rfl) rfl
theorem q356 : (Jvm.Cond.instanceMethod ({ cls := "ResourceLedger$Span", name := "<init>", desc := "()V" } : Jvm.MethodName)) ∈ lw_all := lw_g (lw_at lw_m1 92 rfl) rfl
theorem q357 : (Jvm.Cond.code ({ cls := "ResourceLedger$Span", name := "<init>", desc := "()V" } : Jvm.MethodName) prog_17_method_1_code (1 : Nat) (Option.none : Option Jvm.ClassFile.FieldType)) ∈ lw_all := lw_g (lw_at lw_m1 93 rfl) rfl
theorem q358 : (Jvm.Cond.methodLink "ResourceLedger$Span" (1 : Nat) ({ cls := "java/lang/Object", name := "<init>", desc := "()V" } : Jvm.MethodName)) ∈ lw_all := lw_g (lw_at lw_m1 94 rfl) rfl
theorem q359 : (Jvm.Cond.fieldLink "ResourceLedger$Span" (19 : Nat) "ResourceLedger$Span" "from" "I") ∈ lw_all := lw_g (lw_at lw_m1 95 rfl) rfl
theorem q361 : (Jvm.Cond.fieldLink "ResourceLedger$Span" (7 : Nat) "ResourceLedger$Span" "count" "I") ∈ lw_all := lw_g (lw_at lw_m1 97 rfl) rfl
theorem q367 : (Jvm.Cond.lays "ResourceLedger$Span" "ResourceLedger$Span" "from" "I") ∈ lw_all := lw_g (lw_at lw_m1 103 rfl) rfl
theorem q368 : (Jvm.Cond.soleField "ResourceLedger$Span" "from") ∈ lw_all := lw_g (lw_at lw_m1 104 rfl) rfl
theorem q369 : (Jvm.Cond.lays "ResourceLedger$Span" "ResourceLedger$Span" "count" "I") ∈ lw_all := lw_g (lw_at lw_m1 105 rfl) rfl
theorem q370 : (Jvm.Cond.soleField "ResourceLedger$Span" "count") ∈ lw_all := lw_g (lw_at lw_m1 106 rfl) rfl
theorem q371 : (Jvm.Cond.superclass "ResourceLedger$Span" "java/lang/Object") ∈ lw_all := lw_g (lw_at lw_m1 107 rfl) rfl
theorem q1303 : (Jvm.Cond.instanceMethod ({ cls := "ResourceLedger$Span", name := "get", desc := "(LResourceLedger$Types;I)J" } : Jvm.MethodName)) ∈ lw_all := lw_g (lw_at lw_m5 79 rfl) rfl
theorem q1304 : (Jvm.Cond.selects "ResourceLedger$Span" ({ cls := "ResourceLedger$Span", name := "get", desc := "(LResourceLedger$Types;I)J" } : Jvm.MethodName) ({ cls := "ResourceLedger$Span", name := "get", desc := "(LResourceLedger$Types;I)J" } : Jvm.MethodName)) ∈ lw_all := lw_g (lw_at lw_m5 80 rfl) rfl
theorem q1305 : (Jvm.Cond.code ({ cls := "ResourceLedger$Span", name := "get", desc := "(LResourceLedger$Types;I)J" } : Jvm.MethodName) prog_17_method_2_code (3 : Nat) (Option.some Jvm.ClassFile.FieldType.long)) ∈ lw_all := lw_g (lw_at lw_m5 81 rfl) rfl
theorem in_X5 : ∀ w ∈ wsX50, w ∈ lw_all := lw_in wsX50 [367, 369] (by decide +kernel) (by decide +kernel)
end
section
-- ResourceLedger$Code
set_option maxRecDepth 100000
def RX6 : String := "ResourceLedger$Code"
def TX6 : u_T := fun k => match k with
  | 0 => ("ResourceLedger$Code", "operations", "[B", true)
  | 1 => ("ResourceLedger$Code", "ones", "[J", true)
  | 2 => ("ResourceLedger$Code", "others", "[J", true)
  | 3 => ("ResourceLedger$Code", "places", "[I", true)
  | _ => ("ResourceLedger$Code", "size", "I", false)
def tyX6 : Nat → FieldType := fun k => match k with
  | 0 => .array .byte
  | 1 => .array .long
  | 2 => .array .long
  | 3 => .array .int
  | _ => .int
abbrev wsX60 : List Cond := u_ws RX6 TX6 5
theorem nmX6 : ∀ a, a < 5 → ∀ b, b < 5 → a ≠ b → (TX6 a).2.1 ≠ (TX6 b).2.1 := by decide +kernel
theorem tyX6_ok : ∀ k, k < 5 → parseFieldDescriptor (TX6 k).2.2.1 = some (tyX6 k) := by decide +kernel
abbrev cX6_init : ByteArray := prog_4_method_1_code
def yX6_init : MethodName := ⟨RX6, "<init>", "()V"⟩
abbrev cX6_add : ByteArray := prog_4_method_2_code
def yX6_add : MethodName := ⟨RX6, "add", "(IJJI)V"⟩
theorem q270 : (Jvm.Cond.initialized "ResourceLedger$Code") ∈ lw_all := lw_g (lw_at lw_m1 6 rfl) rfl
theorem q373 : (Jvm.Cond.instantiable "ResourceLedger$Code" (5 : Nat)) ∈ lw_all := lw_g (lw_at lw_m1 109 rfl) rfl
theorem q375 : (Jvm.Cond.instanceMethod ({ cls := "ResourceLedger$Code", name := "<init>", desc := "()V" } : Jvm.MethodName)) ∈ lw_all := lw_g (lw_at lw_m1 111 rfl) rfl
theorem q376 : (Jvm.Cond.code ({ cls := "ResourceLedger$Code", name := "<init>", desc := "()V" } : Jvm.MethodName) prog_4_method_1_code (1 : Nat) (Option.none : Option Jvm.ClassFile.FieldType)) ∈ lw_all := lw_g (lw_at lw_m1 112 rfl) rfl
theorem q377 : (Jvm.Cond.methodLink "ResourceLedger$Code" (1 : Nat) ({ cls := "java/lang/Object", name := "<init>", desc := "()V" } : Jvm.MethodName)) ∈ lw_all := lw_g (lw_at lw_m1 113 rfl) rfl
theorem q378 : (Jvm.Cond.fieldLink "ResourceLedger$Code" (7 : Nat) "ResourceLedger$Code" "operations" "[B") ∈ lw_all := lw_g (lw_at lw_m1 114 rfl) rfl
theorem q382 : (Jvm.Cond.fieldLink "ResourceLedger$Code" (13 : Nat) "ResourceLedger$Code" "ones" "[J") ∈ lw_all := lw_g (lw_at lw_m1 118 rfl) rfl
theorem q386 : (Jvm.Cond.fieldLink "ResourceLedger$Code" (17 : Nat) "ResourceLedger$Code" "others" "[J") ∈ lw_all := lw_g (lw_at lw_m1 122 rfl) rfl
theorem q390 : (Jvm.Cond.fieldLink "ResourceLedger$Code" (20 : Nat) "ResourceLedger$Code" "places" "[I") ∈ lw_all := lw_g (lw_at lw_m1 126 rfl) rfl
theorem q392 : (Jvm.Cond.fieldLink "ResourceLedger$Code" (24 : Nat) "ResourceLedger$Code" "size" "I") ∈ lw_all := lw_g (lw_at lw_m1 128 rfl) rfl
theorem q395 : (Jvm.Cond.laysFinal "ResourceLedger$Code" "ResourceLedger$Code" "operations" "[B") ∈ lw_all := lw_g (lw_at lw_m1 131 rfl) rfl
theorem q396 : (Jvm.Cond.soleField "ResourceLedger$Code" "operations") ∈ lw_all := lw_g (lw_at lw_m1 132 rfl) rfl
theorem q397 : (Jvm.Cond.laysFinal "ResourceLedger$Code" "ResourceLedger$Code" "ones" "[J") ∈ lw_all := lw_g (lw_at lw_m1 133 rfl) rfl
theorem q398 : (Jvm.Cond.soleField "ResourceLedger$Code" "ones") ∈ lw_all := lw_g (lw_at lw_m1 134 rfl) rfl
theorem q399 : (Jvm.Cond.laysFinal "ResourceLedger$Code" "ResourceLedger$Code" "others" "[J") ∈ lw_all := lw_g (lw_at lw_m1 135 rfl) rfl
theorem q400 : (Jvm.Cond.soleField "ResourceLedger$Code" "others") ∈ lw_all := lw_g (lw_at lw_m1 136 rfl) rfl
theorem q401 : (Jvm.Cond.laysFinal "ResourceLedger$Code" "ResourceLedger$Code" "places" "[I") ∈ lw_all := lw_g (lw_at lw_m1 137 rfl) rfl
theorem q402 : (Jvm.Cond.soleField "ResourceLedger$Code" "places") ∈ lw_all := lw_g (lw_at lw_m1 138 rfl) rfl
theorem q403 : (Jvm.Cond.lays "ResourceLedger$Code" "ResourceLedger$Code" "size" "I") ∈ lw_all := lw_g (lw_at lw_m1 139 rfl) rfl
theorem q404 : (Jvm.Cond.soleField "ResourceLedger$Code" "size") ∈ lw_all := lw_g (lw_at lw_m1 140 rfl) rfl
theorem q405 : (Jvm.Cond.superclass "ResourceLedger$Code" "java/lang/Object") ∈ lw_all := lw_g (lw_at lw_m1 141 rfl) rfl
theorem q1255 : (Jvm.Cond.instanceMethod ({ cls := "ResourceLedger$Code", name := "add", desc := "(IJJI)V" } : Jvm.MethodName)) ∈ lw_all := lw_g (lw_at lw_m5 31 rfl) rfl
theorem q1256 : (Jvm.Cond.selects "ResourceLedger$Code" ({ cls := "ResourceLedger$Code", name := "add", desc := "(IJJI)V" } : Jvm.MethodName) ({ cls := "ResourceLedger$Code", name := "add", desc := "(IJJI)V" } : Jvm.MethodName)) ∈ lw_all := lw_g (lw_at lw_m5 32 rfl) rfl
theorem q1257 : (Jvm.Cond.code ({ cls := "ResourceLedger$Code", name := "add", desc := "(IJJI)V" } : Jvm.MethodName) prog_4_method_2_code (7 : Nat) (Option.none : Option Jvm.ClassFile.FieldType)) ∈ lw_all := lw_g (lw_at lw_m5 33 rfl) rfl
theorem in_X6 : ∀ w ∈ wsX60, w ∈ lw_all := lw_in wsX60 [395, 397, 399, 401, 403] (by decide +kernel) (by decide +kernel)
end
section
-- ResourceLedger$Structure
set_option maxRecDepth 100000
def RX7 : String := "ResourceLedger$Structure"
def TX7 : u_T := fun k => match k with
  | 0 => ("ResourceLedger$Structure", "abilities", "I", false)
  | 1 => ("ResourceLedger$Structure", "place", "I", false)
  | 2 => ("ResourceLedger$Structure", "fields", "LResourceLedger$Span;", true)
  | 3 => ("ResourceLedger$Structure", "module", "I", false)
  | _ => ("ResourceLedger$Structure", "number", "I", false)
def tyX7 : Nat → FieldType := fun k => match k with
  | 0 => .int
  | 1 => .int
  | 2 => .object "ResourceLedger$Span"
  | 3 => .int
  | _ => .int
abbrev wsX70 : List Cond := u_ws RX7 TX7 5
theorem nmX7 : ∀ a, a < 5 → ∀ b, b < 5 → a ≠ b → (TX7 a).2.1 ≠ (TX7 b).2.1 := by decide +kernel
theorem tyX7_ok : ∀ k, k < 5 → parseFieldDescriptor (TX7 k).2.2.1 = some (tyX7 k) := by decide +kernel
abbrev cX7_init : ByteArray := prog_18_method_1_code
def yX7_init : MethodName := ⟨RX7, "<init>", "()V"⟩
theorem q271 : (Jvm.Cond.initialized "ResourceLedger$Structure") ∈ lw_all := lw_g (lw_at lw_m1 7 rfl) rfl
theorem q407 : (Jvm.Cond.instantiable "ResourceLedger$Structure" (5 : Nat)) ∈ lw_all := lw_g (lw_at lw_m1 143 rfl) rfl
theorem q409 : (Jvm.Cond.instanceMethod ({ cls := "ResourceLedger$Structure", name := "<init>", desc := "()V" } : Jvm.MethodName)) ∈ lw_all := lw_g (lw_at lw_m1 145 rfl) rfl
theorem q410 : (Jvm.Cond.code ({ cls := "ResourceLedger$Structure", name := "<init>", desc := "()V" } : Jvm.MethodName) prog_18_method_1_code (1 : Nat) (Option.none : Option Jvm.ClassFile.FieldType)) ∈ lw_all := lw_g (lw_at lw_m1 146 rfl) rfl
theorem q411 : (Jvm.Cond.methodLink "ResourceLedger$Structure" (1 : Nat) ({ cls := "java/lang/Object", name := "<init>", desc := "()V" } : Jvm.MethodName)) ∈ lw_all := lw_g (lw_at lw_m1 147 rfl) rfl
theorem q412 : (Jvm.Cond.classLink "ResourceLedger$Structure" (7 : Nat) "ResourceLedger$Span") ∈ lw_all := lw_g (lw_at lw_m1 148 rfl) rfl
theorem q413 : (Jvm.Cond.methodLinkNest "ResourceLedger$Structure" (9 : Nat) ({ cls := "ResourceLedger$Span", name := "<init>", desc := "()V" } : Jvm.MethodName) "ResourceLedger") ∈ lw_tbl := lw_at lw_m1 149 rfl
theorem q418 : (Jvm.Cond.fieldLink "ResourceLedger$Structure" (10 : Nat) "ResourceLedger$Structure" "fields" "LResourceLedger$Span;") ∈ lw_all := lw_g (lw_at lw_m1 154 rfl) rfl
theorem q426 : (Jvm.Cond.lays "ResourceLedger$Structure" "ResourceLedger$Structure" "abilities" "I") ∈ lw_all := lw_g (lw_at lw_m1 162 rfl) rfl
theorem q427 : (Jvm.Cond.soleField "ResourceLedger$Structure" "abilities") ∈ lw_all := lw_g (lw_at lw_m1 163 rfl) rfl
theorem q428 : (Jvm.Cond.lays "ResourceLedger$Structure" "ResourceLedger$Structure" "place" "I") ∈ lw_all := lw_g (lw_at lw_m1 164 rfl) rfl
theorem q429 : (Jvm.Cond.soleField "ResourceLedger$Structure" "place") ∈ lw_all := lw_g (lw_at lw_m1 165 rfl) rfl
theorem q430 : (Jvm.Cond.laysFinal "ResourceLedger$Structure" "ResourceLedger$Structure" "fields" "LResourceLedger$Span;") ∈ lw_all := lw_g (lw_at lw_m1 166 rfl) rfl
theorem q431 : (Jvm.Cond.soleField "ResourceLedger$Structure" "fields") ∈ lw_all := lw_g (lw_at lw_m1 167 rfl) rfl
theorem q432 : (Jvm.Cond.lays "ResourceLedger$Structure" "ResourceLedger$Structure" "module" "I") ∈ lw_all := lw_g (lw_at lw_m1 168 rfl) rfl
theorem q433 : (Jvm.Cond.soleField "ResourceLedger$Structure" "module") ∈ lw_all := lw_g (lw_at lw_m1 169 rfl) rfl
theorem q434 : (Jvm.Cond.lays "ResourceLedger$Structure" "ResourceLedger$Structure" "number" "I") ∈ lw_all := lw_g (lw_at lw_m1 170 rfl) rfl
theorem q435 : (Jvm.Cond.soleField "ResourceLedger$Structure" "number") ∈ lw_all := lw_g (lw_at lw_m1 171 rfl) rfl
theorem q436 : (Jvm.Cond.superclass "ResourceLedger$Structure" "java/lang/Object") ∈ lw_all := lw_g (lw_at lw_m1 172 rfl) rfl
theorem in_X7 : ∀ w ∈ wsX70, w ∈ lw_all := lw_in wsX70 [426, 428, 430, 432, 434] (by decide +kernel) (by decide +kernel)
end
section
-- ResourceLedger$Function
set_option maxRecDepth 100000
def RX8 : String := "ResourceLedger$Function"
def TX8 : u_T := fun k => match k with
  | 0 => ("ResourceLedger$Function", "flags", "I", false)
  | 1 => ("ResourceLedger$Function", "takes", "LResourceLedger$Span;", true)
  | 2 => ("ResourceLedger$Function", "gives", "LResourceLedger$Span;", true)
  | 3 => ("ResourceLedger$Function", "locals", "LResourceLedger$Span;", true)
  | 4 => ("ResourceLedger$Function", "from", "I", false)
  | 5 => ("ResourceLedger$Function", "count", "I", false)
  | 6 => ("ResourceLedger$Function", "module", "I", false)
  | _ => ("ResourceLedger$Function", "number", "I", false)
def tyX8 : Nat → FieldType := fun k => match k with
  | 0 => .int
  | 1 => .object "ResourceLedger$Span"
  | 2 => .object "ResourceLedger$Span"
  | 3 => .object "ResourceLedger$Span"
  | 4 => .int
  | 5 => .int
  | 6 => .int
  | _ => .int
abbrev wsX80 : List Cond := u_ws RX8 TX8 8
theorem nmX8 : ∀ a, a < 8 → ∀ b, b < 8 → a ≠ b → (TX8 a).2.1 ≠ (TX8 b).2.1 := by decide +kernel
theorem tyX8_ok : ∀ k, k < 8 → parseFieldDescriptor (TX8 k).2.2.1 = some (tyX8 k) := by decide +kernel
abbrev cX8_init : ByteArray := prog_9_method_1_code
def yX8_init : MethodName := ⟨RX8, "<init>", "()V"⟩
abbrev cX8_localCount : ByteArray := prog_9_method_3_code
def yX8_localCount : MethodName := ⟨RX8, "localCount", "()I"⟩
theorem q272 : (Jvm.Cond.initialized "ResourceLedger$Function") ∈ lw_all := lw_g (lw_at lw_m1 8 rfl) rfl
theorem q363 : (Jvm.Cond.fieldLinkNest "ResourceLedger$Function" (22 : Nat) "ResourceLedger$Span" "count" "I" "ResourceLedger") ∈ lw_tbl := lw_at lw_m1 99 rfl
theorem q437 : (Jvm.Cond.instantiable "ResourceLedger$Function" (8 : Nat)) ∈ lw_all := lw_g (lw_at lw_m1 173 rfl) rfl
theorem q439 : (Jvm.Cond.instanceMethod ({ cls := "ResourceLedger$Function", name := "<init>", desc := "()V" } : Jvm.MethodName)) ∈ lw_all := lw_g (lw_at lw_m1 175 rfl) rfl
theorem q440 : (Jvm.Cond.code ({ cls := "ResourceLedger$Function", name := "<init>", desc := "()V" } : Jvm.MethodName) prog_9_method_1_code (1 : Nat) (Option.none : Option Jvm.ClassFile.FieldType)) ∈ lw_all := lw_g (lw_at lw_m1 176 rfl) rfl
theorem q441 : (Jvm.Cond.methodLink "ResourceLedger$Function" (1 : Nat) ({ cls := "java/lang/Object", name := "<init>", desc := "()V" } : Jvm.MethodName)) ∈ lw_all := lw_g (lw_at lw_m1 177 rfl) rfl
theorem q442 : (Jvm.Cond.classLink "ResourceLedger$Function" (7 : Nat) "ResourceLedger$Span") ∈ lw_all := lw_g (lw_at lw_m1 178 rfl) rfl
theorem q443 : (Jvm.Cond.methodLinkNest "ResourceLedger$Function" (9 : Nat) ({ cls := "ResourceLedger$Span", name := "<init>", desc := "()V" } : Jvm.MethodName) "ResourceLedger") ∈ lw_tbl := lw_at lw_m1 179 rfl
theorem q447 : (Jvm.Cond.fieldLink "ResourceLedger$Function" (10 : Nat) "ResourceLedger$Function" "takes" "LResourceLedger$Span;") ∈ lw_all := lw_g (lw_at lw_m1 183 rfl) rfl
theorem q451 : (Jvm.Cond.fieldLink "ResourceLedger$Function" (16 : Nat) "ResourceLedger$Function" "gives" "LResourceLedger$Span;") ∈ lw_all := lw_g (lw_at lw_m1 187 rfl) rfl
theorem q455 : (Jvm.Cond.fieldLink "ResourceLedger$Function" (19 : Nat) "ResourceLedger$Function" "locals" "LResourceLedger$Span;") ∈ lw_all := lw_g (lw_at lw_m1 191 rfl) rfl
theorem q467 : (Jvm.Cond.lays "ResourceLedger$Function" "ResourceLedger$Function" "flags" "I") ∈ lw_all := lw_g (lw_at lw_m1 203 rfl) rfl
theorem q468 : (Jvm.Cond.soleField "ResourceLedger$Function" "flags") ∈ lw_all := lw_g (lw_at lw_m1 204 rfl) rfl
theorem q469 : (Jvm.Cond.laysFinal "ResourceLedger$Function" "ResourceLedger$Function" "takes" "LResourceLedger$Span;") ∈ lw_all := lw_g (lw_at lw_m1 205 rfl) rfl
theorem q470 : (Jvm.Cond.soleField "ResourceLedger$Function" "takes") ∈ lw_all := lw_g (lw_at lw_m1 206 rfl) rfl
theorem q471 : (Jvm.Cond.laysFinal "ResourceLedger$Function" "ResourceLedger$Function" "gives" "LResourceLedger$Span;") ∈ lw_all := lw_g (lw_at lw_m1 207 rfl) rfl
theorem q472 : (Jvm.Cond.soleField "ResourceLedger$Function" "gives") ∈ lw_all := lw_g (lw_at lw_m1 208 rfl) rfl
theorem q473 : (Jvm.Cond.laysFinal "ResourceLedger$Function" "ResourceLedger$Function" "locals" "LResourceLedger$Span;") ∈ lw_all := lw_g (lw_at lw_m1 209 rfl) rfl
theorem q474 : (Jvm.Cond.soleField "ResourceLedger$Function" "locals") ∈ lw_all := lw_g (lw_at lw_m1 210 rfl) rfl
theorem q475 : (Jvm.Cond.lays "ResourceLedger$Function" "ResourceLedger$Function" "from" "I") ∈ lw_all := lw_g (lw_at lw_m1 211 rfl) rfl
theorem q476 : (Jvm.Cond.soleField "ResourceLedger$Function" "from") ∈ lw_all := lw_g (lw_at lw_m1 212 rfl) rfl
theorem q477 : (Jvm.Cond.lays "ResourceLedger$Function" "ResourceLedger$Function" "count" "I") ∈ lw_all := lw_g (lw_at lw_m1 213 rfl) rfl
theorem q478 : (Jvm.Cond.soleField "ResourceLedger$Function" "count") ∈ lw_all := lw_g (lw_at lw_m1 214 rfl) rfl
theorem q479 : (Jvm.Cond.lays "ResourceLedger$Function" "ResourceLedger$Function" "module" "I") ∈ lw_all := lw_g (lw_at lw_m1 215 rfl) rfl
theorem q480 : (Jvm.Cond.soleField "ResourceLedger$Function" "module") ∈ lw_all := lw_g (lw_at lw_m1 216 rfl) rfl
theorem q481 : (Jvm.Cond.lays "ResourceLedger$Function" "ResourceLedger$Function" "number" "I") ∈ lw_all := lw_g (lw_at lw_m1 217 rfl) rfl
theorem q482 : (Jvm.Cond.soleField "ResourceLedger$Function" "number") ∈ lw_all := lw_g (lw_at lw_m1 218 rfl) rfl
theorem q483 : (Jvm.Cond.superclass "ResourceLedger$Function" "java/lang/Object") ∈ lw_all := lw_g (lw_at lw_m1 219 rfl) rfl
theorem q1287 : (Jvm.Cond.instanceMethod ({ cls := "ResourceLedger$Function", name := "localCount", desc := "()I" } : Jvm.MethodName)) ∈ lw_all := lw_g (lw_at lw_m5 63 rfl) rfl
theorem q1288 : (Jvm.Cond.selects "ResourceLedger$Function" ({ cls := "ResourceLedger$Function", name := "localCount", desc := "()I" } : Jvm.MethodName) ({ cls := "ResourceLedger$Function", name := "localCount", desc := "()I" } : Jvm.MethodName)) ∈ lw_all := lw_g (lw_at lw_m5 64 rfl) rfl
theorem q1289 : (Jvm.Cond.code ({ cls := "ResourceLedger$Function", name := "localCount", desc := "()I" } : Jvm.MethodName) prog_9_method_3_code (1 : Nat) (Option.some Jvm.ClassFile.FieldType.int)) ∈ lw_all := lw_g (lw_at lw_m5 65 rfl) rfl
theorem in_X8 : ∀ w ∈ wsX80, w ∈ lw_all := lw_in wsX80 [467, 469, 471, 473, 475, 477, 479, 481] (by decide +kernel) (by decide +kernel)
end
section
-- ResourceLedger$Entries
set_option maxRecDepth 100000
def RX9 : String := "ResourceLedger$Entries"
def TX9 : u_T := fun k => match k with
  | 0 => ("ResourceLedger$Entries", "row", "[LResourceLedger$Entry;", true)
  | _ => ("ResourceLedger$Entries", "count", "I", false)
def tyX9 : Nat → FieldType := fun k => match k with
  | 0 => .array (.object "ResourceLedger$Entry")
  | _ => .int
abbrev wsX90 : List Cond := u_ws RX9 TX9 2
theorem nmX9 : ∀ a, a < 2 → ∀ b, b < 2 → a ≠ b → (TX9 a).2.1 ≠ (TX9 b).2.1 := by decide +kernel
theorem tyX9_ok : ∀ k, k < 2 → parseFieldDescriptor (TX9 k).2.2.1 = some (tyX9 k) := by decide +kernel
abbrev cX9_init : ByteArray := prog_5_method_1_code
def yX9_init : MethodName := ⟨RX9, "<init>", "(I)V"⟩
abbrev cX9_find : ByteArray := prog_5_method_2_code
def yX9_find : MethodName := ⟨RX9, "find", "(IJI)LResourceLedger$Entry;"⟩
theorem q273 : (Jvm.Cond.initialized "ResourceLedger$Entries") ∈ lw_all := lw_g (lw_at lw_m1 9 rfl) rfl
theorem q554 : (Jvm.Cond.instantiable "ResourceLedger$Entries" (2 : Nat)) ∈ lw_all := lw_g (lw_at lw_m2 50 rfl) rfl
theorem q556 : (Jvm.Cond.instanceMethod ({ cls := "ResourceLedger$Entries", name := "<init>", desc := "(I)V" } : Jvm.MethodName)) ∈ lw_all := lw_g (lw_at lw_m2 52 rfl) rfl
theorem q557 : (Jvm.Cond.code ({ cls := "ResourceLedger$Entries", name := "<init>", desc := "(I)V" } : Jvm.MethodName) prog_5_method_1_code (3 : Nat) (Option.none : Option Jvm.ClassFile.FieldType)) ∈ lw_all := lw_g (lw_at lw_m2 53 rfl) rfl
theorem q558 : (Jvm.Cond.methodLink "ResourceLedger$Entries" (1 : Nat) ({ cls := "java/lang/Object", name := "<init>", desc := "()V" } : Jvm.MethodName)) ∈ lw_all := lw_g (lw_at lw_m2 54 rfl) rfl
theorem q559 : (Jvm.Cond.classLink "ResourceLedger$Entries" (7 : Nat) "ResourceLedger$Entry") ∈ lw_all := lw_g (lw_at lw_m2 55 rfl) rfl
theorem q562 : (Jvm.Cond.methodLinkNest "ResourceLedger$Entries" (15 : Nat) ({ cls := "ResourceLedger$Entry", name := "<init>", desc := "()V" } : Jvm.MethodName) "ResourceLedger") ∈ lw_tbl := lw_at lw_m2 58 rfl
theorem q610 : (Jvm.Cond.fieldLink "ResourceLedger$Entries" (9 : Nat) "ResourceLedger$Entries" "row" "[LResourceLedger$Entry;") ∈ lw_all := lw_g (lw_at lw_m2 106 rfl) rfl
theorem q613 : (Jvm.Cond.fieldLink "ResourceLedger$Entries" (16 : Nat) "ResourceLedger$Entries" "count" "I") ∈ lw_all := lw_g (lw_at lw_m2 109 rfl) rfl
theorem q616 : (Jvm.Cond.laysFinal "ResourceLedger$Entries" "ResourceLedger$Entries" "row" "[LResourceLedger$Entry;") ∈ lw_all := lw_g (lw_at lw_m2 112 rfl) rfl
theorem q617 : (Jvm.Cond.soleField "ResourceLedger$Entries" "row") ∈ lw_all := lw_g (lw_at lw_m2 113 rfl) rfl
theorem q618 : (Jvm.Cond.lays "ResourceLedger$Entries" "ResourceLedger$Entries" "count" "I") ∈ lw_all := lw_g (lw_at lw_m2 114 rfl) rfl
theorem q619 : (Jvm.Cond.soleField "ResourceLedger$Entries" "count") ∈ lw_all := lw_g (lw_at lw_m2 115 rfl) rfl
theorem q620 : (Jvm.Cond.superclass "ResourceLedger$Entries" "java/lang/Object") ∈ lw_all := lw_g (lw_at lw_m2 116 rfl) rfl
theorem q1487 : (Jvm.Cond.instanceMethod ({ cls := "ResourceLedger$Entries", name := "find", desc := "(IJI)LResourceLedger$Entry;" } : Jvm.MethodName)) ∈ lw_all := lw_g (lw_at lw_m6 23 rfl) rfl
theorem q1488 : (Jvm.Cond.selects "ResourceLedger$Entries" ({ cls := "ResourceLedger$Entries", name := "find", desc := "(IJI)LResourceLedger$Entry;" } : Jvm.MethodName) ({ cls := "ResourceLedger$Entries", name := "find", desc := "(IJI)LResourceLedger$Entry;" } : Jvm.MethodName)) ∈ lw_all := lw_g (lw_at lw_m6 24 rfl) rfl
theorem q1489 : (Jvm.Cond.code ({ cls := "ResourceLedger$Entries", name := "find", desc := "(IJI)LResourceLedger$Entry;" } : Jvm.MethodName) prog_5_method_2_code (7 : Nat) (Option.some (Jvm.ClassFile.FieldType.object "ResourceLedger$Entry"))) ∈ lw_all := lw_g (lw_at lw_m6 25 rfl) rfl
theorem q1490 : (Jvm.Cond.methodLink "ResourceLedger$Entries" (20 : Nat) ({ cls := "ResourceLedger$Entry", name := "isAt", desc := "(IJI)Z" } : Jvm.MethodName)) ∈ lw_all := lw_g (lw_at lw_m6 26 rfl) rfl
theorem in_X9 : ∀ w ∈ wsX90, w ∈ lw_all := lw_in wsX90 [616, 618] (by decide +kernel) (by decide +kernel)
end
section
-- ResourceLedger$Entry
set_option maxRecDepth 100000
def RX10 : String := "ResourceLedger$Entry"
def TX10 : u_T := fun k => match k with
  | 0 => ("ResourceLedger$Entry", "kind", "I", false)
  | 1 => ("ResourceLedger$Entry", "a", "J", false)
  | 2 => ("ResourceLedger$Entry", "b", "I", false)
  | 3 => ("ResourceLedger$Entry", "there", "Z", false)
  | 4 => ("ResourceLedger$Entry", "balance", "J", false)
  | 5 => ("ResourceLedger$Entry", "sequence", "J", false)
  | 6 => ("ResourceLedger$Entry", "module", "LResourceLedger$Module;", false)
  | 7 => ("ResourceLedger$Entry", "value", "LResourceLedger$Value;", false)
  | 8 => ("ResourceLedger$Entry", "from", "I", false)
  | 9 => ("ResourceLedger$Entry", "run", "I", false)
  | 10 => ("ResourceLedger$Entry", "wasThere", "Z", false)
  | 11 => ("ResourceLedger$Entry", "changed", "Z", false)
  | _ => ("ResourceLedger$Entry", "guessed", "Z", false)
def tyX10 : Nat → FieldType := fun k => match k with
  | 0 => .int
  | 1 => .long
  | 2 => .int
  | 3 => .boolean
  | 4 => .long
  | 5 => .long
  | 6 => .object "ResourceLedger$Module"
  | 7 => .object "ResourceLedger$Value"
  | 8 => .int
  | 9 => .int
  | 10 => .boolean
  | 11 => .boolean
  | _ => .boolean
abbrev wsX100 : List Cond := u_ws RX10 TX10 13
set_option maxRecDepth 100000 in
theorem nmX10 : ∀ a, a < 13 → ∀ b, b < 13 → a ≠ b → (TX10 a).2.1 ≠ (TX10 b).2.1 := by decide +kernel
set_option maxRecDepth 100000 in
theorem tyX10_ok : ∀ k, k < 13 → parseFieldDescriptor (TX10 k).2.2.1 = some (tyX10 k) := by decide +kernel
abbrev cX10_init : ByteArray := prog_6_method_1_code
def yX10_init : MethodName := ⟨RX10, "<init>", "()V"⟩
abbrev cX10_isAt : ByteArray := prog_6_method_2_code
def yX10_isAt : MethodName := ⟨RX10, "isAt", "(IJI)Z"⟩
abbrev cX10_place : ByteArray := prog_6_method_3_code
def yX10_place : MethodName := ⟨RX10, "place", "(IJI)V"⟩
theorem q274 : (Jvm.Cond.initialized "ResourceLedger$Entry") ∈ lw_all := lw_g (lw_at lw_m1 10 rfl) rfl
theorem q561 : (Jvm.Cond.instantiable "ResourceLedger$Entry" (13 : Nat)) ∈ lw_all := lw_g (lw_at lw_m2 57 rfl) rfl
theorem q563 : (Jvm.Cond.instanceMethod ({ cls := "ResourceLedger$Entry", name := "<init>", desc := "()V" } : Jvm.MethodName)) ∈ lw_all := lw_g (lw_at lw_m2 59 rfl) rfl
theorem q564 : (Jvm.Cond.code ({ cls := "ResourceLedger$Entry", name := "<init>", desc := "()V" } : Jvm.MethodName) prog_6_method_1_code (1 : Nat) (Option.none : Option Jvm.ClassFile.FieldType)) ∈ lw_all := lw_g (lw_at lw_m2 60 rfl) rfl
theorem q565 : (Jvm.Cond.methodLink "ResourceLedger$Entry" (1 : Nat) ({ cls := "java/lang/Object", name := "<init>", desc := "()V" } : Jvm.MethodName)) ∈ lw_all := lw_g (lw_at lw_m2 61 rfl) rfl
theorem q566 : (Jvm.Cond.fieldLink "ResourceLedger$Entry" (7 : Nat) "ResourceLedger$Entry" "kind" "I") ∈ lw_all := lw_g (lw_at lw_m2 62 rfl) rfl
theorem q568 : (Jvm.Cond.fieldLink "ResourceLedger$Entry" (13 : Nat) "ResourceLedger$Entry" "a" "J") ∈ lw_all := lw_g (lw_at lw_m2 64 rfl) rfl
theorem q570 : (Jvm.Cond.fieldLink "ResourceLedger$Entry" (17 : Nat) "ResourceLedger$Entry" "b" "I") ∈ lw_all := lw_g (lw_at lw_m2 66 rfl) rfl
theorem q583 : (Jvm.Cond.lays "ResourceLedger$Entry" "ResourceLedger$Entry" "kind" "I") ∈ lw_all := lw_g (lw_at lw_m2 79 rfl) rfl
theorem q584 : (Jvm.Cond.soleField "ResourceLedger$Entry" "kind") ∈ lw_all := lw_g (lw_at lw_m2 80 rfl) rfl
theorem q585 : (Jvm.Cond.lays "ResourceLedger$Entry" "ResourceLedger$Entry" "a" "J") ∈ lw_all := lw_g (lw_at lw_m2 81 rfl) rfl
theorem q586 : (Jvm.Cond.soleField "ResourceLedger$Entry" "a") ∈ lw_all := lw_g (lw_at lw_m2 82 rfl) rfl
theorem q587 : (Jvm.Cond.lays "ResourceLedger$Entry" "ResourceLedger$Entry" "b" "I") ∈ lw_all := lw_g (lw_at lw_m2 83 rfl) rfl
theorem q588 : (Jvm.Cond.soleField "ResourceLedger$Entry" "b") ∈ lw_all := lw_g (lw_at lw_m2 84 rfl) rfl
theorem q589 : (Jvm.Cond.lays "ResourceLedger$Entry" "ResourceLedger$Entry" "there" "Z") ∈ lw_all := lw_g (lw_at lw_m2 85 rfl) rfl
theorem q590 : (Jvm.Cond.soleField "ResourceLedger$Entry" "there") ∈ lw_all := lw_g (lw_at lw_m2 86 rfl) rfl
theorem q591 : (Jvm.Cond.lays "ResourceLedger$Entry" "ResourceLedger$Entry" "balance" "J") ∈ lw_all := lw_g (lw_at lw_m2 87 rfl) rfl
theorem q592 : (Jvm.Cond.soleField "ResourceLedger$Entry" "balance") ∈ lw_all := lw_g (lw_at lw_m2 88 rfl) rfl
theorem q593 : (Jvm.Cond.lays "ResourceLedger$Entry" "ResourceLedger$Entry" "sequence" "J") ∈ lw_all := lw_g (lw_at lw_m2 89 rfl) rfl
theorem q594 : (Jvm.Cond.soleField "ResourceLedger$Entry" "sequence") ∈ lw_all := lw_g (lw_at lw_m2 90 rfl) rfl
theorem q595 : (Jvm.Cond.lays "ResourceLedger$Entry" "ResourceLedger$Entry" "module" "LResourceLedger$Module;") ∈ lw_all := lw_g (lw_at lw_m2 91 rfl) rfl
theorem q596 : (Jvm.Cond.soleField "ResourceLedger$Entry" "module") ∈ lw_all := lw_g (lw_at lw_m2 92 rfl) rfl
theorem q597 : (Jvm.Cond.lays "ResourceLedger$Entry" "ResourceLedger$Entry" "value" "LResourceLedger$Value;") ∈ lw_all := lw_g (lw_at lw_m2 93 rfl) rfl
theorem q598 : (Jvm.Cond.soleField "ResourceLedger$Entry" "value") ∈ lw_all := lw_g (lw_at lw_m2 94 rfl) rfl
theorem q599 : (Jvm.Cond.lays "ResourceLedger$Entry" "ResourceLedger$Entry" "from" "I") ∈ lw_all := lw_g (lw_at lw_m2 95 rfl) rfl
theorem q600 : (Jvm.Cond.soleField "ResourceLedger$Entry" "from") ∈ lw_all := lw_g (lw_at lw_m2 96 rfl) rfl
theorem q601 : (Jvm.Cond.lays "ResourceLedger$Entry" "ResourceLedger$Entry" "run" "I") ∈ lw_all := lw_g (lw_at lw_m2 97 rfl) rfl
theorem q602 : (Jvm.Cond.soleField "ResourceLedger$Entry" "run") ∈ lw_all := lw_g (lw_at lw_m2 98 rfl) rfl
theorem q603 : (Jvm.Cond.lays "ResourceLedger$Entry" "ResourceLedger$Entry" "wasThere" "Z") ∈ lw_all := lw_g (lw_at lw_m2 99 rfl) rfl
theorem q604 : (Jvm.Cond.soleField "ResourceLedger$Entry" "wasThere") ∈ lw_all := lw_g (lw_at lw_m2 100 rfl) rfl
theorem q605 : (Jvm.Cond.lays "ResourceLedger$Entry" "ResourceLedger$Entry" "changed" "Z") ∈ lw_all := lw_g (lw_at lw_m2 101 rfl) rfl
theorem q606 : (Jvm.Cond.soleField "ResourceLedger$Entry" "changed") ∈ lw_all := lw_g (lw_at lw_m2 102 rfl) rfl
theorem q607 : (Jvm.Cond.lays "ResourceLedger$Entry" "ResourceLedger$Entry" "guessed" "Z") ∈ lw_all := lw_g (lw_at lw_m2 103 rfl) rfl
theorem q608 : (Jvm.Cond.soleField "ResourceLedger$Entry" "guessed") ∈ lw_all := lw_g (lw_at lw_m2 104 rfl) rfl
theorem q609 : (Jvm.Cond.superclass "ResourceLedger$Entry" "java/lang/Object") ∈ lw_all := lw_g (lw_at lw_m2 105 rfl) rfl
theorem q1491 : (Jvm.Cond.instanceMethod ({ cls := "ResourceLedger$Entry", name := "isAt", desc := "(IJI)Z" } : Jvm.MethodName)) ∈ lw_all := lw_g (lw_at lw_m6 27 rfl) rfl
theorem q1492 : (Jvm.Cond.selects "ResourceLedger$Entry" ({ cls := "ResourceLedger$Entry", name := "isAt", desc := "(IJI)Z" } : Jvm.MethodName) ({ cls := "ResourceLedger$Entry", name := "isAt", desc := "(IJI)Z" } : Jvm.MethodName)) ∈ lw_all := lw_g (lw_at lw_m6 28 rfl) rfl
theorem q1493 : (Jvm.Cond.code ({ cls := "ResourceLedger$Entry", name := "isAt", desc := "(IJI)Z" } : Jvm.MethodName) prog_6_method_2_code (5 : Nat) (Option.some Jvm.ClassFile.FieldType.boolean)) ∈ lw_all := lw_g (lw_at lw_m6 29 rfl) rfl
theorem q1499 : (Jvm.Cond.instanceMethod ({ cls := "ResourceLedger$Entry", name := "place", desc := "(IJI)V" } : Jvm.MethodName)) ∈ lw_all := lw_g (lw_at lw_m6 35 rfl) rfl
theorem q1500 : (Jvm.Cond.selects "ResourceLedger$Entry" ({ cls := "ResourceLedger$Entry", name := "place", desc := "(IJI)V" } : Jvm.MethodName) ({ cls := "ResourceLedger$Entry", name := "place", desc := "(IJI)V" } : Jvm.MethodName)) ∈ lw_all := lw_g (lw_at lw_m6 36 rfl) rfl
theorem q1501 : (Jvm.Cond.code ({ cls := "ResourceLedger$Entry", name := "place", desc := "(IJI)V" } : Jvm.MethodName) prog_6_method_3_code (5 : Nat) (Option.none : Option Jvm.ClassFile.FieldType)) ∈ lw_all := lw_g (lw_at lw_m6 37 rfl) rfl
theorem in_X10 : ∀ w ∈ wsX100, w ∈ lw_all := lw_in wsX100 [583, 585, 587, 589, 591, 593, 595, 597, 599, 601, 603, 605, 607] (by decide +kernel) (by decide +kernel)
end
section
-- ResourceLedger$Pool
set_option maxRecDepth 100000
def RX11 : String := "ResourceLedger$Pool"
def TX11 : u_T := fun k => match k with
  | _ => ("ResourceLedger$Pool", "free", "LResourceLedger$Value;", false)
def tyX11 : Nat → FieldType := fun k => match k with
  | _ => .object "ResourceLedger$Value"
abbrev wsX110 : List Cond := u_ws RX11 TX11 1
theorem nmX11 : ∀ a, a < 1 → ∀ b, b < 1 → a ≠ b → (TX11 a).2.1 ≠ (TX11 b).2.1 := by decide +kernel
theorem tyX11_ok : ∀ k, k < 1 → parseFieldDescriptor (TX11 k).2.2.1 = some (tyX11 k) := by decide +kernel
abbrev cX11_init : ByteArray := prog_15_method_1_code
def yX11_init : MethodName := ⟨RX11, "<init>", "()V"⟩
abbrev cX11_drop : ByteArray := prog_15_method_4_code
def yX11_drop : MethodName := ⟨RX11, "drop", "(LResourceLedger$Pool;LResourceLedger$Value;)V"⟩
abbrev cX11_copy : ByteArray := prog_15_method_5_code
def yX11_copy : MethodName := ⟨RX11, "copy", "(LResourceLedger$Pool;LResourceLedger$Value;)LResourceLedger$Value;"⟩
abbrev cX11_take : ByteArray := prog_15_method_2_code
def yX11_take : MethodName := ⟨RX11, "take", "(I)LResourceLedger$Value;"⟩
abbrev cX11_number : ByteArray := prog_15_method_3_code
def yX11_number : MethodName := ⟨RX11, "number", "(JJJ)LResourceLedger$Value;"⟩
abbrev cX11_replace : ByteArray := prog_15_method_6_code
def yX11_replace : MethodName := ⟨RX11, "replace", "(LResourceLedger$Value;LResourceLedger$Value;)V"⟩
abbrev cX11_swap : ByteArray := prog_15_method_7_code
def yX11_swap : MethodName := ⟨RX11, "swap", "(LResourceLedger$Value;LResourceLedger$Value;)V"⟩
theorem q275 : (Jvm.Cond.initialized "ResourceLedger$Pool") ∈ lw_all := lw_g (lw_at lw_m1 11 rfl) rfl
theorem q622 : (Jvm.Cond.instantiable "ResourceLedger$Pool" (1 : Nat)) ∈ lw_all := lw_g (lw_at lw_m2 118 rfl) rfl
theorem q624 : (Jvm.Cond.instanceMethod ({ cls := "ResourceLedger$Pool", name := "<init>", desc := "()V" } : Jvm.MethodName)) ∈ lw_all := lw_g (lw_at lw_m2 120 rfl) rfl
theorem q625 : (Jvm.Cond.code ({ cls := "ResourceLedger$Pool", name := "<init>", desc := "()V" } : Jvm.MethodName) prog_15_method_1_code (1 : Nat) (Option.none : Option Jvm.ClassFile.FieldType)) ∈ lw_all := lw_g (lw_at lw_m2 121 rfl) rfl
theorem q626 : (Jvm.Cond.methodLink "ResourceLedger$Pool" (1 : Nat) ({ cls := "java/lang/Object", name := "<init>", desc := "()V" } : Jvm.MethodName)) ∈ lw_all := lw_g (lw_at lw_m2 122 rfl) rfl
theorem q627 : (Jvm.Cond.fieldLink "ResourceLedger$Pool" (7 : Nat) "ResourceLedger$Pool" "free" "LResourceLedger$Value;") ∈ lw_all := lw_g (lw_at lw_m2 123 rfl) rfl
theorem q628 : (Jvm.Cond.lays "ResourceLedger$Pool" "ResourceLedger$Pool" "free" "LResourceLedger$Value;") ∈ lw_all := lw_g (lw_at lw_m2 124 rfl) rfl
theorem q629 : (Jvm.Cond.soleField "ResourceLedger$Pool" "free") ∈ lw_all := lw_g (lw_at lw_m2 125 rfl) rfl
theorem q630 : (Jvm.Cond.superclass "ResourceLedger$Pool" "java/lang/Object") ∈ lw_all := lw_g (lw_at lw_m2 126 rfl) rfl
theorem q1459 : (Jvm.Cond.static ({ cls := "ResourceLedger$Pool", name := "drop", desc := "(LResourceLedger$Pool;LResourceLedger$Value;)V" } : Jvm.MethodName)) ∈ lw_all := lw_g (lw_at lw_m5 235 rfl) rfl
theorem q1460 : (Jvm.Cond.code ({ cls := "ResourceLedger$Pool", name := "drop", desc := "(LResourceLedger$Pool;LResourceLedger$Value;)V" } : Jvm.MethodName) prog_15_method_4_code (4 : Nat) (Option.none : Option Jvm.ClassFile.FieldType)) ∈ lw_all := lw_g (lw_at lw_m5 236 rfl) rfl
theorem q1461 : (Jvm.Cond.methodLink "ResourceLedger$Pool" (43 : Nat) ({ cls := "ResourceLedger$Pool", name := "drop", desc := "(LResourceLedger$Pool;LResourceLedger$Value;)V" } : Jvm.MethodName)) ∈ lw_all := lw_g (lw_at lw_m5 237 rfl) rfl
theorem q1503 : (Jvm.Cond.static ({ cls := "ResourceLedger$Pool", name := "copy", desc := "(LResourceLedger$Pool;LResourceLedger$Value;)LResourceLedger$Value;" } : Jvm.MethodName)) ∈ lw_all := lw_g (lw_at lw_m6 39 rfl) rfl
theorem q1504 : (Jvm.Cond.code ({ cls := "ResourceLedger$Pool", name := "copy", desc := "(LResourceLedger$Pool;LResourceLedger$Value;)LResourceLedger$Value;" } : Jvm.MethodName) prog_15_method_5_code (6 : Nat) (Option.some (Jvm.ClassFile.FieldType.object "ResourceLedger$Value"))) ∈ lw_all := lw_g (lw_at lw_m6 40 rfl) rfl
theorem q1505 : (Jvm.Cond.methodLink "ResourceLedger$Pool" (39 : Nat) ({ cls := "ResourceLedger$Pool", name := "take", desc := "(I)LResourceLedger$Value;" } : Jvm.MethodName)) ∈ lw_all := lw_g (lw_at lw_m6 41 rfl) rfl
theorem q1506 : (Jvm.Cond.instanceMethod ({ cls := "ResourceLedger$Pool", name := "take", desc := "(I)LResourceLedger$Value;" } : Jvm.MethodName)) ∈ lw_all := lw_g (lw_at lw_m6 42 rfl) rfl
theorem q1507 : (Jvm.Cond.selects "ResourceLedger$Pool" ({ cls := "ResourceLedger$Pool", name := "take", desc := "(I)LResourceLedger$Value;" } : Jvm.MethodName) ({ cls := "ResourceLedger$Pool", name := "take", desc := "(I)LResourceLedger$Value;" } : Jvm.MethodName)) ∈ lw_all := lw_g (lw_at lw_m6 43 rfl) rfl
theorem q1508 : (Jvm.Cond.code ({ cls := "ResourceLedger$Pool", name := "take", desc := "(I)LResourceLedger$Value;" } : Jvm.MethodName) prog_15_method_2_code (3 : Nat) (Option.some (Jvm.ClassFile.FieldType.object "ResourceLedger$Value"))) ∈ lw_all := lw_g (lw_at lw_m6 44 rfl) rfl
theorem q1509 : (Jvm.Cond.classLink "ResourceLedger$Pool" (13 : Nat) "ResourceLedger$Value") ∈ lw_all := lw_g (lw_at lw_m6 45 rfl) rfl
theorem q1511 : (Jvm.Cond.methodLinkNest "ResourceLedger$Pool" (15 : Nat) ({ cls := "ResourceLedger$Value", name := "<init>", desc := "()V" } : Jvm.MethodName) "ResourceLedger") ∈ lw_tbl := lw_at lw_m6 47 rfl
theorem q1515 : (Jvm.Cond.fieldLinkNest "ResourceLedger$Pool" (19 : Nat) "ResourceLedger$Value" "kind" "I" "ResourceLedger") ∈ lw_tbl := lw_at lw_m6 51 rfl
theorem q1518 : (Jvm.Cond.fieldLinkNest "ResourceLedger$Pool" (23 : Nat) "ResourceLedger$Value" "high" "J" "ResourceLedger") ∈ lw_tbl := lw_at lw_m6 54 rfl
theorem q1521 : (Jvm.Cond.fieldLinkNest "ResourceLedger$Pool" (27 : Nat) "ResourceLedger$Value" "low" "J" "ResourceLedger") ∈ lw_tbl := lw_at lw_m6 57 rfl
theorem q1525 : (Jvm.Cond.fieldLinkNest "ResourceLedger$Pool" (30 : Nat) "ResourceLedger$Value" "first" "LResourceLedger$Value;" "ResourceLedger") ∈ lw_tbl := lw_at lw_m6 61 rfl
theorem q1528 : (Jvm.Cond.fieldLinkNest "ResourceLedger$Pool" (16 : Nat) "ResourceLedger$Value" "next" "LResourceLedger$Value;" "ResourceLedger") ∈ lw_tbl := lw_at lw_m6 64 rfl
theorem q1530 : (Jvm.Cond.fieldLinkNest "ResourceLedger$Pool" (33 : Nat) "ResourceLedger$Value" "count" "I" "ResourceLedger") ∈ lw_tbl := lw_at lw_m6 66 rfl
theorem q1533 : (Jvm.Cond.fieldLinkNest "ResourceLedger$Pool" (36 : Nat) "ResourceLedger$Value" "target" "LResourceLedger$Value;" "ResourceLedger") ∈ lw_tbl := lw_at lw_m6 69 rfl
theorem q1550 : (Jvm.Cond.methodLink "ResourceLedger$Pool" (47 : Nat) ({ cls := "ResourceLedger$Pool", name := "copy", desc := "(LResourceLedger$Pool;LResourceLedger$Value;)LResourceLedger$Value;" } : Jvm.MethodName)) ∈ lw_all := lw_g (lw_at lw_m6 86 rfl) rfl
theorem q1575 : (Jvm.Cond.instanceMethod ({ cls := "ResourceLedger$Pool", name := "number", desc := "(JJJ)LResourceLedger$Value;" } : Jvm.MethodName)) ∈ lw_all := lw_g (lw_at lw_m6 111 rfl) rfl
theorem q1576 : (Jvm.Cond.selects "ResourceLedger$Pool" ({ cls := "ResourceLedger$Pool", name := "number", desc := "(JJJ)LResourceLedger$Value;" } : Jvm.MethodName) ({ cls := "ResourceLedger$Pool", name := "number", desc := "(JJJ)LResourceLedger$Value;" } : Jvm.MethodName)) ∈ lw_all := lw_g (lw_at lw_m6 112 rfl) rfl
theorem q1577 : (Jvm.Cond.code ({ cls := "ResourceLedger$Pool", name := "number", desc := "(JJJ)LResourceLedger$Value;" } : Jvm.MethodName) prog_15_method_3_code (8 : Nat) (Option.some (Jvm.ClassFile.FieldType.object "ResourceLedger$Value"))) ∈ lw_all := lw_g (lw_at lw_m6 113 rfl) rfl
theorem q1598 : (Jvm.Cond.instanceMethod ({ cls := "ResourceLedger$Pool", name := "replace", desc := "(LResourceLedger$Value;LResourceLedger$Value;)V" } : Jvm.MethodName)) ∈ lw_all := lw_g (lw_at lw_m6 134 rfl) rfl
theorem q1599 : (Jvm.Cond.selects "ResourceLedger$Pool" ({ cls := "ResourceLedger$Pool", name := "replace", desc := "(LResourceLedger$Value;LResourceLedger$Value;)V" } : Jvm.MethodName) ({ cls := "ResourceLedger$Pool", name := "replace", desc := "(LResourceLedger$Value;LResourceLedger$Value;)V" } : Jvm.MethodName)) ∈ lw_all := lw_g (lw_at lw_m6 135 rfl) rfl
theorem q1600 : (Jvm.Cond.code ({ cls := "ResourceLedger$Pool", name := "replace", desc := "(LResourceLedger$Value;LResourceLedger$Value;)V" } : Jvm.MethodName) prog_15_method_6_code (5 : Nat) (Option.none : Option Jvm.ClassFile.FieldType)) ∈ lw_all := lw_g (lw_at lw_m6 136 rfl) rfl
theorem q1741 : (Jvm.Cond.instanceMethod ({ cls := "ResourceLedger$Pool", name := "swap", desc := "(LResourceLedger$Value;LResourceLedger$Value;)V" } : Jvm.MethodName)) ∈ lw_all := lw_g (lw_at lw_m7 37 rfl) rfl
theorem q1742 : (Jvm.Cond.selects "ResourceLedger$Pool" ({ cls := "ResourceLedger$Pool", name := "swap", desc := "(LResourceLedger$Value;LResourceLedger$Value;)V" } : Jvm.MethodName) ({ cls := "ResourceLedger$Pool", name := "swap", desc := "(LResourceLedger$Value;LResourceLedger$Value;)V" } : Jvm.MethodName)) ∈ lw_all := lw_g (lw_at lw_m7 38 rfl) rfl
theorem q1743 : (Jvm.Cond.code ({ cls := "ResourceLedger$Pool", name := "swap", desc := "(LResourceLedger$Value;LResourceLedger$Value;)V" } : Jvm.MethodName) prog_15_method_7_code (9 : Nat) (Option.none : Option Jvm.ClassFile.FieldType)) ∈ lw_all := lw_g (lw_at lw_m7 39 rfl) rfl
theorem in_X11 : ∀ w ∈ wsX110, w ∈ lw_all := lw_in wsX110 [628] (by decide +kernel) (by decide +kernel)
end
section
-- ResourceLedger$Reader
set_option maxRecDepth 100000
def RX12 : String := "ResourceLedger$Reader"
def TX12 : u_T := fun k => match k with
  | 0 => ("ResourceLedger$Reader", "tape", "[B", true)
  | 1 => ("ResourceLedger$Reader", "size", "I", false)
  | 2 => ("ResourceLedger$Reader", "at", "I", false)
  | 3 => ("ResourceLedger$Reader", "t", "LResourceLedger$Tables;", false)
  | 4 => ("ResourceLedger$Reader", "why", "I", false)
  | 5 => ("ResourceLedger$Reader", "place", "I", false)
  | 6 => ("ResourceLedger$Reader", "wrong", "Ljava/lang/IllegalArgumentException;", true)
  | 7 => ("ResourceLedger$Reader", "typeAt", "I", false)
  | _ => ("ResourceLedger$Reader", "reach", "[J", true)
def tyX12 : Nat → FieldType := fun k => match k with
  | 0 => .array .byte
  | 1 => .int
  | 2 => .int
  | 3 => .object "ResourceLedger$Tables"
  | 4 => .int
  | 5 => .int
  | 6 => .object "java/lang/IllegalArgumentException"
  | 7 => .int
  | _ => .array .long
abbrev wsX120 : List Cond := u_ws RX12 TX12 9
theorem nmX12 : ∀ a, a < 9 → ∀ b, b < 9 → a ≠ b → (TX12 a).2.1 ≠ (TX12 b).2.1 := by decide +kernel
theorem tyX12_ok : ∀ k, k < 9 → parseFieldDescriptor (TX12 k).2.2.1 = some (tyX12 k) := by decide +kernel
abbrev cX12_init : ByteArray := prog_16_method_1_code
def yX12_init : MethodName := ⟨RX12, "<init>", "()V"⟩
abbrev cX12_readInto : ByteArray := prog_16_method_22_code
def yX12_readInto : MethodName := ⟨RX12, "readInto", "(LResourceLedger$Tables;)I"⟩
abbrev cX12_module : ByteArray := prog_16_method_15_code
def yX12_module : MethodName := ⟨RX12, "module", "()V"⟩
abbrev cX12_next : ByteArray := prog_16_method_4_code
def yX12_next : MethodName := ⟨RX12, "next", "()I"⟩
abbrev cX12_need : ByteArray := prog_16_method_3_code
def yX12_need : MethodName := ⟨RX12, "need", "(ZII)V"⟩
abbrev cX12_fail : ByteArray := prog_16_method_2_code
def yX12_fail : MethodName := ⟨RX12, "fail", "(II)V"⟩
abbrev cX12_shortNumber : ByteArray := prog_16_method_6_code
def yX12_shortNumber : MethodName := ⟨RX12, "shortNumber", "()I"⟩
abbrev cX12_number : ByteArray := prog_16_method_5_code
def yX12_number : MethodName := ⟨RX12, "number", "(I)J"⟩
abbrev cX12_structureRows : ByteArray := prog_16_method_11_code
def yX12_structureRows : MethodName := ⟨RX12, "structureRows", "()V"⟩
abbrev cX12_bounded : ByteArray := prog_16_method_7_code
def yX12_bounded : MethodName := ⟨RX12, "bounded", "(II)I"⟩
abbrev cX12_span : ByteArray := prog_16_method_9_code
def yX12_span : MethodName := ⟨RX12, "span", "(LResourceLedger$Span;IZ)V"⟩
abbrev cX12_type : ByteArray := prog_16_method_8_code
def yX12_type : MethodName := ⟨RX12, "type", "(Z)V"⟩
abbrev cX12_foreignFunctions : ByteArray := prog_16_method_12_code
def yX12_foreignFunctions : MethodName := ⟨RX12, "foreignFunctions", "()V"⟩
abbrev cX12_list : ByteArray := prog_16_method_10_code
def yX12_list : MethodName := ⟨RX12, "list", "(LResourceLedger$Span;I)V"⟩
abbrev cX12_functionOf : ByteArray := prog_16_method_14_code
def yX12_functionOf : MethodName := ⟨RX12, "functionOf", "(LResourceLedger$Function;)V"⟩
abbrev cX12_instruction : ByteArray := prog_16_method_13_code
def yX12_instruction : MethodName := ⟨RX12, "instruction", "()V"⟩
abbrev cX12_bounds : ByteArray := prog_16_method_19_code
def yX12_bounds : MethodName := ⟨RX12, "bounds", "()V"⟩
abbrev cX12_typesTo : ByteArray := prog_16_method_16_code
def yX12_typesTo : MethodName := ⟨RX12, "typesTo", "(I)V"⟩
abbrev cX12_operands : ByteArray := prog_16_method_18_code
def yX12_operands : MethodName := ⟨RX12, "operands", "(LResourceLedger$Function;I)V"⟩
abbrev cX12_structureOperand : ByteArray := prog_16_method_17_code
def yX12_structureOperand : MethodName := ⟨RX12, "structureOperand", "(II)V"⟩
abbrev cX12_itself : ByteArray := prog_16_method_21_code
def yX12_itself : MethodName := ⟨RX12, "itself", "()V"⟩
abbrev cX12_directly : ByteArray := prog_16_method_20_code
def yX12_directly : MethodName := ⟨RX12, "directly", "(LResourceLedger$Structure;)J"⟩
theorem q276 : (Jvm.Cond.initialized "ResourceLedger$Reader") ∈ lw_all := lw_g (lw_at lw_m1 12 rfl) rfl
theorem q338 : (Jvm.Cond.fieldLinkNest "ResourceLedger$Reader" (207 : Nat) "ResourceLedger$Types" "row" "[J" "ResourceLedger") ∈ lw_tbl := lw_at lw_m1 74 rfl
theorem q340 : (Jvm.Cond.fieldLinkNest "ResourceLedger$Reader" (204 : Nat) "ResourceLedger$Types" "places" "[I" "ResourceLedger") ∈ lw_tbl := lw_at lw_m1 76 rfl
theorem q343 : (Jvm.Cond.fieldLinkNest "ResourceLedger$Reader" (74 : Nat) "ResourceLedger$Types" "size" "I" "ResourceLedger") ∈ lw_tbl := lw_at lw_m1 79 rfl
theorem q360 : (Jvm.Cond.fieldLinkNest "ResourceLedger$Reader" (75 : Nat) "ResourceLedger$Span" "from" "I" "ResourceLedger") ∈ lw_tbl := lw_at lw_m1 96 rfl
theorem q365 : (Jvm.Cond.fieldLinkNest "ResourceLedger$Reader" (80 : Nat) "ResourceLedger$Span" "count" "I" "ResourceLedger") ∈ lw_tbl := lw_at lw_m1 101 rfl
theorem q379 : (Jvm.Cond.fieldLinkNest "ResourceLedger$Reader" (221 : Nat) "ResourceLedger$Code" "operations" "[B" "ResourceLedger") ∈ lw_tbl := lw_at lw_m1 115 rfl
theorem q383 : (Jvm.Cond.fieldLinkNest "ResourceLedger$Reader" (217 : Nat) "ResourceLedger$Code" "ones" "[J" "ResourceLedger") ∈ lw_tbl := lw_at lw_m1 119 rfl
theorem q387 : (Jvm.Cond.fieldLinkNest "ResourceLedger$Reader" (230 : Nat) "ResourceLedger$Code" "others" "[J" "ResourceLedger") ∈ lw_tbl := lw_at lw_m1 123 rfl
theorem q391 : (Jvm.Cond.fieldLinkNest "ResourceLedger$Reader" (220 : Nat) "ResourceLedger$Code" "places" "[I" "ResourceLedger") ∈ lw_tbl := lw_at lw_m1 127 rfl
theorem q394 : (Jvm.Cond.fieldLinkNest "ResourceLedger$Reader" (176 : Nat) "ResourceLedger$Code" "size" "I" "ResourceLedger") ∈ lw_tbl := lw_at lw_m1 130 rfl
theorem q415 : (Jvm.Cond.fieldLinkNest "ResourceLedger$Reader" (105 : Nat) "ResourceLedger$Structure" "abilities" "I" "ResourceLedger") ∈ lw_tbl := lw_at lw_m1 151 rfl
theorem q417 : (Jvm.Cond.fieldLinkNest "ResourceLedger$Reader" (102 : Nat) "ResourceLedger$Structure" "place" "I" "ResourceLedger") ∈ lw_tbl := lw_at lw_m1 153 rfl
theorem q420 : (Jvm.Cond.fieldLinkNest "ResourceLedger$Reader" (108 : Nat) "ResourceLedger$Structure" "fields" "LResourceLedger$Span;" "ResourceLedger") ∈ lw_tbl := lw_at lw_m1 156 rfl
theorem q422 : (Jvm.Cond.fieldLinkNest "ResourceLedger$Reader" (118 : Nat) "ResourceLedger$Structure" "module" "I" "ResourceLedger") ∈ lw_tbl := lw_at lw_m1 158 rfl
theorem q424 : (Jvm.Cond.fieldLinkNest "ResourceLedger$Reader" (121 : Nat) "ResourceLedger$Structure" "number" "I" "ResourceLedger") ∈ lw_tbl := lw_at lw_m1 160 rfl
theorem q446 : (Jvm.Cond.fieldLinkNest "ResourceLedger$Reader" (134 : Nat) "ResourceLedger$Function" "flags" "I" "ResourceLedger") ∈ lw_tbl := lw_at lw_m1 182 rfl
theorem q450 : (Jvm.Cond.fieldLinkNest "ResourceLedger$Reader" (141 : Nat) "ResourceLedger$Function" "takes" "LResourceLedger$Span;" "ResourceLedger") ∈ lw_tbl := lw_at lw_m1 186 rfl
theorem q453 : (Jvm.Cond.fieldLinkNest "ResourceLedger$Reader" (148 : Nat) "ResourceLedger$Function" "gives" "LResourceLedger$Span;" "ResourceLedger") ∈ lw_tbl := lw_at lw_m1 189 rfl
theorem q457 : (Jvm.Cond.fieldLinkNest "ResourceLedger$Reader" (138 : Nat) "ResourceLedger$Function" "locals" "LResourceLedger$Span;" "ResourceLedger") ∈ lw_tbl := lw_at lw_m1 193 rfl
theorem q458 : (Jvm.Cond.fieldLinkNest "ResourceLedger$Reader" (177 : Nat) "ResourceLedger$Function" "from" "I" "ResourceLedger") ∈ lw_tbl := lw_at lw_m1 194 rfl
theorem q461 : (Jvm.Cond.fieldLinkNest "ResourceLedger$Reader" (137 : Nat) "ResourceLedger$Function" "count" "I" "ResourceLedger") ∈ lw_tbl := lw_at lw_m1 197 rfl
theorem q463 : (Jvm.Cond.fieldLinkNest "ResourceLedger$Reader" (130 : Nat) "ResourceLedger$Function" "module" "I" "ResourceLedger") ∈ lw_tbl := lw_at lw_m1 199 rfl
theorem q465 : (Jvm.Cond.fieldLinkNest "ResourceLedger$Reader" (133 : Nat) "ResourceLedger$Function" "number" "I" "ResourceLedger") ∈ lw_tbl := lw_at lw_m1 201 rfl
theorem q485 : (Jvm.Cond.fieldLinkNest "ResourceLedger$Reader" (185 : Nat) "ResourceLedger$Tables" "number" "I" "ResourceLedger") ∈ lw_tbl := lw_at lw_m1 221 rfl
theorem q488 : (Jvm.Cond.fieldLinkNest "ResourceLedger$Reader" (98 : Nat) "ResourceLedger$Tables" "structures" "[LResourceLedger$Structure;" "ResourceLedger") ∈ lw_tbl := lw_at lw_m1 224 rfl
theorem q492 : (Jvm.Cond.fieldLinkNest "ResourceLedger$Reader" (126 : Nat) "ResourceLedger$Tables" "functions" "[LResourceLedger$Function;" "ResourceLedger") ∈ lw_tbl := lw_at lw_m1 228 rfl
theorem q495 : (Jvm.Cond.fieldLinkNest "ResourceLedger$Reader" (62 : Nat) "ResourceLedger$Tables" "types" "LResourceLedger$Types;" "ResourceLedger") ∈ lw_tbl := lw_at lw_m1 231 rfl
theorem q498 : (Jvm.Cond.fieldLinkNest "ResourceLedger$Reader" (191 : Nat) "ResourceLedger$Tables" "elements" "LResourceLedger$Span;" "ResourceLedger") ∈ lw_tbl := lw_at lw_m1 234 rfl
theorem q501 : (Jvm.Cond.fieldLinkNest "ResourceLedger$Reader" (167 : Nat) "ResourceLedger$Tables" "code" "LResourceLedger$Code;" "ResourceLedger") ∈ lw_tbl := lw_at lw_m1 237 rfl
theorem q505 : (Jvm.Cond.fieldLinkNest "ResourceLedger$Reader" (95 : Nat) "ResourceLedger$Tables" "own" "I" "ResourceLedger") ∈ lw_tbl := lw_at lw_m2 1 rfl
theorem q508 : (Jvm.Cond.fieldLinkNest "ResourceLedger$Reader" (112 : Nat) "ResourceLedger$Tables" "foreign" "I" "ResourceLedger") ∈ lw_tbl := lw_at lw_m2 4 rfl
theorem q512 : (Jvm.Cond.fieldLinkNest "ResourceLedger$Reader" (194 : Nat) "ResourceLedger$Tables" "ownFunctions" "I" "ResourceLedger") ∈ lw_tbl := lw_at lw_m2 8 rfl
theorem q514 : (Jvm.Cond.fieldLinkNest "ResourceLedger$Reader" (123 : Nat) "ResourceLedger$Tables" "foreignFunctions" "I" "ResourceLedger") ∈ lw_tbl := lw_at lw_m2 10 rfl
theorem q634 : (Jvm.Cond.instantiable "ResourceLedger$Reader" (9 : Nat)) ∈ lw_all := lw_g (lw_at lw_m2 130 rfl) rfl
theorem q636 : (Jvm.Cond.instanceMethod ({ cls := "ResourceLedger$Reader", name := "<init>", desc := "()V" } : Jvm.MethodName)) ∈ lw_all := lw_g (lw_at lw_m2 132 rfl) rfl
theorem q637 : (Jvm.Cond.code ({ cls := "ResourceLedger$Reader", name := "<init>", desc := "()V" } : Jvm.MethodName) prog_16_method_1_code (1 : Nat) (Option.none : Option Jvm.ClassFile.FieldType)) ∈ lw_all := lw_g (lw_at lw_m2 133 rfl) rfl
theorem q638 : (Jvm.Cond.methodLink "ResourceLedger$Reader" (3 : Nat) ({ cls := "java/lang/Object", name := "<init>", desc := "()V" } : Jvm.MethodName)) ∈ lw_all := lw_g (lw_at lw_m2 134 rfl) rfl
theorem q639 : (Jvm.Cond.classLink "ResourceLedger$Reader" (15 : Nat) "java/lang/IllegalArgumentException") ∈ lw_all := lw_g (lw_at lw_m2 135 rfl) rfl
theorem q679 : (Jvm.Cond.stringRef "ResourceLedger$Reader" (17 : Nat) "wrong") ∈ lw_tbl := lw_at lw_m2 175 rfl
theorem q680 : (Jvm.Cond.methodLink "ResourceLedger$Reader" (19 : Nat) ({ cls := "java/lang/IllegalArgumentException", name := "<init>", desc := "(Ljava/lang/String;)V" } : Jvm.MethodName)) ∈ lw_all := lw_g (lw_at lw_m2 176 rfl) rfl
theorem q705 : (Jvm.Cond.fieldLink "ResourceLedger$Reader" (9 : Nat) "ResourceLedger$Reader" "tape" "[B") ∈ lw_all := lw_g (lw_at lw_m2 201 rfl) rfl
theorem q708 : (Jvm.Cond.fieldLink "ResourceLedger$Reader" (43 : Nat) "ResourceLedger$Reader" "size" "I") ∈ lw_all := lw_g (lw_at lw_m2 204 rfl) rfl
theorem q709 : (Jvm.Cond.fieldLink "ResourceLedger$Reader" (40 : Nat) "ResourceLedger$Reader" "at" "I") ∈ lw_all := lw_g (lw_at lw_m2 205 rfl) rfl
theorem q710 : (Jvm.Cond.fieldLink "ResourceLedger$Reader" (58 : Nat) "ResourceLedger$Reader" "t" "LResourceLedger$Tables;") ∈ lw_all := lw_g (lw_at lw_m2 206 rfl) rfl
theorem q711 : (Jvm.Cond.fieldLink "ResourceLedger$Reader" (29 : Nat) "ResourceLedger$Reader" "why" "I") ∈ lw_all := lw_g (lw_at lw_m2 207 rfl) rfl
theorem q712 : (Jvm.Cond.fieldLink "ResourceLedger$Reader" (33 : Nat) "ResourceLedger$Reader" "place" "I") ∈ lw_all := lw_g (lw_at lw_m2 208 rfl) rfl
theorem q714 : (Jvm.Cond.fieldLink "ResourceLedger$Reader" (22 : Nat) "ResourceLedger$Reader" "wrong" "Ljava/lang/IllegalArgumentException;") ∈ lw_all := lw_g (lw_at lw_m2 210 rfl) rfl
theorem q715 : (Jvm.Cond.fieldLink "ResourceLedger$Reader" (201 : Nat) "ResourceLedger$Reader" "typeAt" "I") ∈ lw_all := lw_g (lw_at lw_m2 211 rfl) rfl
theorem q716 : (Jvm.Cond.fieldLink "ResourceLedger$Reader" (25 : Nat) "ResourceLedger$Reader" "reach" "[J") ∈ lw_all := lw_g (lw_at lw_m2 212 rfl) rfl
theorem q717 : (Jvm.Cond.laysFinal "ResourceLedger$Reader" "ResourceLedger$Reader" "tape" "[B") ∈ lw_all := lw_g (lw_at lw_m2 213 rfl) rfl
theorem q718 : (Jvm.Cond.soleField "ResourceLedger$Reader" "tape") ∈ lw_all := lw_g (lw_at lw_m2 214 rfl) rfl
theorem q719 : (Jvm.Cond.lays "ResourceLedger$Reader" "ResourceLedger$Reader" "size" "I") ∈ lw_all := lw_g (lw_at lw_m2 215 rfl) rfl
theorem q720 : (Jvm.Cond.soleField "ResourceLedger$Reader" "size") ∈ lw_all := lw_g (lw_at lw_m2 216 rfl) rfl
theorem q721 : (Jvm.Cond.lays "ResourceLedger$Reader" "ResourceLedger$Reader" "at" "I") ∈ lw_all := lw_g (lw_at lw_m2 217 rfl) rfl
theorem q722 : (Jvm.Cond.soleField "ResourceLedger$Reader" "at") ∈ lw_all := lw_g (lw_at lw_m2 218 rfl) rfl
theorem q723 : (Jvm.Cond.lays "ResourceLedger$Reader" "ResourceLedger$Reader" "t" "LResourceLedger$Tables;") ∈ lw_all := lw_g (lw_at lw_m2 219 rfl) rfl
theorem q724 : (Jvm.Cond.soleField "ResourceLedger$Reader" "t") ∈ lw_all := lw_g (lw_at lw_m2 220 rfl) rfl
theorem q725 : (Jvm.Cond.lays "ResourceLedger$Reader" "ResourceLedger$Reader" "why" "I") ∈ lw_all := lw_g (lw_at lw_m2 221 rfl) rfl
theorem q726 : (Jvm.Cond.soleField "ResourceLedger$Reader" "why") ∈ lw_all := lw_g (lw_at lw_m2 222 rfl) rfl
theorem q727 : (Jvm.Cond.lays "ResourceLedger$Reader" "ResourceLedger$Reader" "place" "I") ∈ lw_all := lw_g (lw_at lw_m2 223 rfl) rfl
theorem q728 : (Jvm.Cond.soleField "ResourceLedger$Reader" "place") ∈ lw_all := lw_g (lw_at lw_m2 224 rfl) rfl
theorem q729 : (Jvm.Cond.laysFinal "ResourceLedger$Reader" "ResourceLedger$Reader" "wrong" "Ljava/lang/IllegalArgumentException;") ∈ lw_all := lw_g (lw_at lw_m2 225 rfl) rfl
theorem q730 : (Jvm.Cond.soleField "ResourceLedger$Reader" "wrong") ∈ lw_all := lw_g (lw_at lw_m2 226 rfl) rfl
theorem q731 : (Jvm.Cond.lays "ResourceLedger$Reader" "ResourceLedger$Reader" "typeAt" "I") ∈ lw_all := lw_g (lw_at lw_m2 227 rfl) rfl
theorem q732 : (Jvm.Cond.soleField "ResourceLedger$Reader" "typeAt") ∈ lw_all := lw_g (lw_at lw_m2 228 rfl) rfl
theorem q733 : (Jvm.Cond.laysFinal "ResourceLedger$Reader" "ResourceLedger$Reader" "reach" "[J") ∈ lw_all := lw_g (lw_at lw_m2 229 rfl) rfl
theorem q734 : (Jvm.Cond.soleField "ResourceLedger$Reader" "reach") ∈ lw_all := lw_g (lw_at lw_m2 230 rfl) rfl
theorem q735 : (Jvm.Cond.superclass "ResourceLedger$Reader" "java/lang/Object") ∈ lw_all := lw_g (lw_at lw_m2 231 rfl) rfl
theorem q1159 : (Jvm.Cond.instanceMethod ({ cls := "ResourceLedger$Reader", name := "readInto", desc := "(LResourceLedger$Tables;)I" } : Jvm.MethodName)) ∈ lw_all := lw_g (lw_at lw_m4 175 rfl) rfl
theorem q1160 : (Jvm.Cond.selects "ResourceLedger$Reader" ({ cls := "ResourceLedger$Reader", name := "readInto", desc := "(LResourceLedger$Tables;)I" } : Jvm.MethodName) ({ cls := "ResourceLedger$Reader", name := "readInto", desc := "(LResourceLedger$Tables;)I" } : Jvm.MethodName)) ∈ lw_all := lw_g (lw_at lw_m4 176 rfl) rfl
theorem q1161 : (Jvm.Cond.codeWith ({ cls := "ResourceLedger$Reader", name := "readInto", desc := "(LResourceLedger$Tables;)I" } : Jvm.MethodName) prog_16_method_22_code (3 : Nat) (Option.some Jvm.ClassFile.FieldType.int) [((30 : Nat), (42 : Nat), (45 : Nat), (15 : Nat))]) ∈ lw_all := lw_g (lw_at lw_m4 177 rfl) rfl
theorem q1162 : (Jvm.Cond.methodLink "ResourceLedger$Reader" (255 : Nat) ({ cls := "ResourceLedger$Tables", name := "clear", desc := "()V" } : Jvm.MethodName)) ∈ lw_all := lw_g (lw_at lw_m4 178 rfl) rfl
theorem q1166 : (Jvm.Cond.methodLink "ResourceLedger$Reader" (258 : Nat) ({ cls := "ResourceLedger$Reader", name := "module", desc := "()V" } : Jvm.MethodName)) ∈ lw_all := lw_g (lw_at lw_m4 182 rfl) rfl
theorem q1167 : (Jvm.Cond.privateMethod ({ cls := "ResourceLedger$Reader", name := "module", desc := "()V" } : Jvm.MethodName)) ∈ lw_tbl := lw_at lw_m4 183 rfl
theorem q1168 : (Jvm.Cond.instanceMethod ({ cls := "ResourceLedger$Reader", name := "module", desc := "()V" } : Jvm.MethodName)) ∈ lw_all := lw_g (lw_at lw_m4 184 rfl) rfl
theorem q1169 : (Jvm.Cond.code ({ cls := "ResourceLedger$Reader", name := "module", desc := "()V" } : Jvm.MethodName) prog_16_method_15_code (3 : Nat) (Option.none : Option Jvm.ClassFile.FieldType)) ∈ lw_all := lw_g (lw_at lw_m4 185 rfl) rfl
theorem q1170 : (Jvm.Cond.methodLink "ResourceLedger$Reader" (50 : Nat) ({ cls := "ResourceLedger$Reader", name := "next", desc := "()I" } : Jvm.MethodName)) ∈ lw_all := lw_g (lw_at lw_m4 186 rfl) rfl
theorem q1171 : (Jvm.Cond.privateMethod ({ cls := "ResourceLedger$Reader", name := "next", desc := "()I" } : Jvm.MethodName)) ∈ lw_tbl := lw_at lw_m4 187 rfl
theorem q1172 : (Jvm.Cond.instanceMethod ({ cls := "ResourceLedger$Reader", name := "next", desc := "()I" } : Jvm.MethodName)) ∈ lw_all := lw_g (lw_at lw_m4 188 rfl) rfl
theorem q1173 : (Jvm.Cond.code ({ cls := "ResourceLedger$Reader", name := "next", desc := "()I" } : Jvm.MethodName) prog_16_method_4_code (1 : Nat) (Option.some Jvm.ClassFile.FieldType.int)) ∈ lw_all := lw_g (lw_at lw_m4 189 rfl) rfl
theorem q1174 : (Jvm.Cond.methodLink "ResourceLedger$Reader" (46 : Nat) ({ cls := "ResourceLedger$Reader", name := "need", desc := "(ZII)V" } : Jvm.MethodName)) ∈ lw_all := lw_g (lw_at lw_m4 190 rfl) rfl
theorem q1175 : (Jvm.Cond.privateMethod ({ cls := "ResourceLedger$Reader", name := "need", desc := "(ZII)V" } : Jvm.MethodName)) ∈ lw_tbl := lw_at lw_m4 191 rfl
theorem q1176 : (Jvm.Cond.instanceMethod ({ cls := "ResourceLedger$Reader", name := "need", desc := "(ZII)V" } : Jvm.MethodName)) ∈ lw_all := lw_g (lw_at lw_m4 192 rfl) rfl
theorem q1177 : (Jvm.Cond.code ({ cls := "ResourceLedger$Reader", name := "need", desc := "(ZII)V" } : Jvm.MethodName) prog_16_method_3_code (4 : Nat) (Option.none : Option Jvm.ClassFile.FieldType)) ∈ lw_all := lw_g (lw_at lw_m4 193 rfl) rfl
theorem q1178 : (Jvm.Cond.methodLink "ResourceLedger$Reader" (36 : Nat) ({ cls := "ResourceLedger$Reader", name := "fail", desc := "(II)V" } : Jvm.MethodName)) ∈ lw_all := lw_g (lw_at lw_m4 194 rfl) rfl
theorem q1179 : (Jvm.Cond.privateMethod ({ cls := "ResourceLedger$Reader", name := "fail", desc := "(II)V" } : Jvm.MethodName)) ∈ lw_tbl := lw_at lw_m4 195 rfl
theorem q1180 : (Jvm.Cond.instanceMethod ({ cls := "ResourceLedger$Reader", name := "fail", desc := "(II)V" } : Jvm.MethodName)) ∈ lw_all := lw_g (lw_at lw_m4 196 rfl) rfl
theorem q1181 : (Jvm.Cond.code ({ cls := "ResourceLedger$Reader", name := "fail", desc := "(II)V" } : Jvm.MethodName) prog_16_method_2_code (3 : Nat) (Option.none : Option Jvm.ClassFile.FieldType)) ∈ lw_all := lw_g (lw_at lw_m4 197 rfl) rfl
theorem q1182 : (Jvm.Cond.fieldLink "ResourceLedger$Reader" (181 : Nat) "ResourceLedger$Reader" "BEGINNING" "[I") ∈ lw_all := lw_g (lw_at lw_m4 198 rfl) rfl
theorem q1183 : (Jvm.Cond.laysStatic "ResourceLedger$Reader" "BEGINNING" "[I") ∈ lw_tbl := lw_at lw_m4 199 rfl
theorem q1184 : (Jvm.Cond.methodLink "ResourceLedger$Reader" (115 : Nat) ({ cls := "ResourceLedger$Reader", name := "shortNumber", desc := "()I" } : Jvm.MethodName)) ∈ lw_all := lw_g (lw_at lw_m4 200 rfl) rfl
theorem q1185 : (Jvm.Cond.privateMethod ({ cls := "ResourceLedger$Reader", name := "shortNumber", desc := "()I" } : Jvm.MethodName)) ∈ lw_tbl := lw_at lw_m4 201 rfl
theorem q1186 : (Jvm.Cond.instanceMethod ({ cls := "ResourceLedger$Reader", name := "shortNumber", desc := "()I" } : Jvm.MethodName)) ∈ lw_all := lw_g (lw_at lw_m4 202 rfl) rfl
theorem q1187 : (Jvm.Cond.code ({ cls := "ResourceLedger$Reader", name := "shortNumber", desc := "()I" } : Jvm.MethodName) prog_16_method_6_code (1 : Nat) (Option.some Jvm.ClassFile.FieldType.int)) ∈ lw_all := lw_g (lw_at lw_m4 203 rfl) rfl
theorem q1188 : (Jvm.Cond.methodLink "ResourceLedger$Reader" (54 : Nat) ({ cls := "ResourceLedger$Reader", name := "number", desc := "(I)J" } : Jvm.MethodName)) ∈ lw_all := lw_g (lw_at lw_m4 204 rfl) rfl
theorem q1189 : (Jvm.Cond.privateMethod ({ cls := "ResourceLedger$Reader", name := "number", desc := "(I)J" } : Jvm.MethodName)) ∈ lw_tbl := lw_at lw_m4 205 rfl
theorem q1190 : (Jvm.Cond.instanceMethod ({ cls := "ResourceLedger$Reader", name := "number", desc := "(I)J" } : Jvm.MethodName)) ∈ lw_all := lw_g (lw_at lw_m4 206 rfl) rfl
theorem q1191 : (Jvm.Cond.code ({ cls := "ResourceLedger$Reader", name := "number", desc := "(I)J" } : Jvm.MethodName) prog_16_method_5_code (5 : Nat) (Option.some Jvm.ClassFile.FieldType.long)) ∈ lw_all := lw_g (lw_at lw_m4 207 rfl) rfl
theorem q1192 : (Jvm.Cond.methodLink "ResourceLedger$Reader" (186 : Nat) ({ cls := "ResourceLedger$Reader", name := "structureRows", desc := "()V" } : Jvm.MethodName)) ∈ lw_all := lw_g (lw_at lw_m4 208 rfl) rfl
theorem q1193 : (Jvm.Cond.privateMethod ({ cls := "ResourceLedger$Reader", name := "structureRows", desc := "()V" } : Jvm.MethodName)) ∈ lw_tbl := lw_at lw_m4 209 rfl
theorem q1194 : (Jvm.Cond.instanceMethod ({ cls := "ResourceLedger$Reader", name := "structureRows", desc := "()V" } : Jvm.MethodName)) ∈ lw_all := lw_g (lw_at lw_m4 210 rfl) rfl
theorem q1195 : (Jvm.Cond.code ({ cls := "ResourceLedger$Reader", name := "structureRows", desc := "()V" } : Jvm.MethodName) prog_16_method_11_code (3 : Nat) (Option.none : Option Jvm.ClassFile.FieldType)) ∈ lw_all := lw_g (lw_at lw_m4 211 rfl) rfl
theorem q1196 : (Jvm.Cond.methodLink "ResourceLedger$Reader" (87 : Nat) ({ cls := "ResourceLedger$Reader", name := "bounded", desc := "(II)I" } : Jvm.MethodName)) ∈ lw_all := lw_g (lw_at lw_m4 212 rfl) rfl
theorem q1197 : (Jvm.Cond.privateMethod ({ cls := "ResourceLedger$Reader", name := "bounded", desc := "(II)I" } : Jvm.MethodName)) ∈ lw_tbl := lw_at lw_m4 213 rfl
theorem q1198 : (Jvm.Cond.instanceMethod ({ cls := "ResourceLedger$Reader", name := "bounded", desc := "(II)I" } : Jvm.MethodName)) ∈ lw_all := lw_g (lw_at lw_m4 214 rfl) rfl
theorem q1199 : (Jvm.Cond.code ({ cls := "ResourceLedger$Reader", name := "bounded", desc := "(II)I" } : Jvm.MethodName) prog_16_method_7_code (5 : Nat) (Option.some Jvm.ClassFile.FieldType.int)) ∈ lw_all := lw_g (lw_at lw_m4 215 rfl) rfl
theorem q1200 : (Jvm.Cond.methodLink "ResourceLedger$Reader" (91 : Nat) ({ cls := "ResourceLedger$Reader", name := "span", desc := "(LResourceLedger$Span;IZ)V" } : Jvm.MethodName)) ∈ lw_all := lw_g (lw_at lw_m4 216 rfl) rfl
theorem q1201 : (Jvm.Cond.privateMethod ({ cls := "ResourceLedger$Reader", name := "span", desc := "(LResourceLedger$Span;IZ)V" } : Jvm.MethodName)) ∈ lw_tbl := lw_at lw_m4 217 rfl
theorem q1202 : (Jvm.Cond.instanceMethod ({ cls := "ResourceLedger$Reader", name := "span", desc := "(LResourceLedger$Span;IZ)V" } : Jvm.MethodName)) ∈ lw_all := lw_g (lw_at lw_m4 218 rfl) rfl
theorem q1203 : (Jvm.Cond.code ({ cls := "ResourceLedger$Reader", name := "span", desc := "(LResourceLedger$Span;IZ)V" } : Jvm.MethodName) prog_16_method_9_code (5 : Nat) (Option.none : Option Jvm.ClassFile.FieldType)) ∈ lw_all := lw_g (lw_at lw_m4 219 rfl) rfl
theorem q1204 : (Jvm.Cond.methodLink "ResourceLedger$Reader" (83 : Nat) ({ cls := "ResourceLedger$Reader", name := "type", desc := "(Z)V" } : Jvm.MethodName)) ∈ lw_all := lw_g (lw_at lw_m4 220 rfl) rfl
theorem q1205 : (Jvm.Cond.privateMethod ({ cls := "ResourceLedger$Reader", name := "type", desc := "(Z)V" } : Jvm.MethodName)) ∈ lw_tbl := lw_at lw_m4 221 rfl
theorem q1206 : (Jvm.Cond.instanceMethod ({ cls := "ResourceLedger$Reader", name := "type", desc := "(Z)V" } : Jvm.MethodName)) ∈ lw_all := lw_g (lw_at lw_m4 222 rfl) rfl
theorem q1207 : (Jvm.Cond.code ({ cls := "ResourceLedger$Reader", name := "type", desc := "(Z)V" } : Jvm.MethodName) prog_16_method_8_code (7 : Nat) (Option.none : Option Jvm.ClassFile.FieldType)) ∈ lw_all := lw_g (lw_at lw_m4 223 rfl) rfl
theorem q1208 : (Jvm.Cond.methodLink "ResourceLedger$Reader" (68 : Nat) ({ cls := "ResourceLedger$Types", name := "add", desc := "(JI)V" } : Jvm.MethodName)) ∈ lw_all := lw_g (lw_at lw_m4 224 rfl) rfl
theorem q1212 : (Jvm.Cond.methodLink "ResourceLedger$Reader" (189 : Nat) ({ cls := "ResourceLedger$Reader", name := "foreignFunctions", desc := "()V" } : Jvm.MethodName)) ∈ lw_all := lw_g (lw_at lw_m4 228 rfl) rfl
theorem q1213 : (Jvm.Cond.privateMethod ({ cls := "ResourceLedger$Reader", name := "foreignFunctions", desc := "()V" } : Jvm.MethodName)) ∈ lw_tbl := lw_at lw_m4 229 rfl
theorem q1214 : (Jvm.Cond.instanceMethod ({ cls := "ResourceLedger$Reader", name := "foreignFunctions", desc := "()V" } : Jvm.MethodName)) ∈ lw_all := lw_g (lw_at lw_m4 230 rfl) rfl
theorem q1215 : (Jvm.Cond.code ({ cls := "ResourceLedger$Reader", name := "foreignFunctions", desc := "()V" } : Jvm.MethodName) prog_16_method_12_code (3 : Nat) (Option.none : Option Jvm.ClassFile.FieldType)) ∈ lw_all := lw_g (lw_at lw_m4 231 rfl) rfl
theorem q1216 : (Jvm.Cond.methodLink "ResourceLedger$Reader" (144 : Nat) ({ cls := "ResourceLedger$Reader", name := "list", desc := "(LResourceLedger$Span;I)V" } : Jvm.MethodName)) ∈ lw_all := lw_g (lw_at lw_m4 232 rfl) rfl
theorem q1217 : (Jvm.Cond.privateMethod ({ cls := "ResourceLedger$Reader", name := "list", desc := "(LResourceLedger$Span;I)V" } : Jvm.MethodName)) ∈ lw_tbl := lw_at lw_m4 233 rfl
theorem q1218 : (Jvm.Cond.instanceMethod ({ cls := "ResourceLedger$Reader", name := "list", desc := "(LResourceLedger$Span;I)V" } : Jvm.MethodName)) ∈ lw_all := lw_g (lw_at lw_m4 234 rfl) rfl
theorem q1219 : (Jvm.Cond.code ({ cls := "ResourceLedger$Reader", name := "list", desc := "(LResourceLedger$Span;I)V" } : Jvm.MethodName) prog_16_method_10_code (3 : Nat) (Option.none : Option Jvm.ClassFile.FieldType)) ∈ lw_all := lw_g (lw_at lw_m4 235 rfl) rfl
theorem q1220 : (Jvm.Cond.methodLink "ResourceLedger$Reader" (197 : Nat) ({ cls := "ResourceLedger$Reader", name := "functionOf", desc := "(LResourceLedger$Function;)V" } : Jvm.MethodName)) ∈ lw_all := lw_g (lw_at lw_m4 236 rfl) rfl
theorem q1221 : (Jvm.Cond.privateMethod ({ cls := "ResourceLedger$Reader", name := "functionOf", desc := "(LResourceLedger$Function;)V" } : Jvm.MethodName)) ∈ lw_tbl := lw_at lw_m4 237 rfl
theorem q1222 : (Jvm.Cond.instanceMethod ({ cls := "ResourceLedger$Reader", name := "functionOf", desc := "(LResourceLedger$Function;)V" } : Jvm.MethodName)) ∈ lw_all := lw_g (lw_at lw_m4 238 rfl) rfl
theorem q1223 : (Jvm.Cond.code ({ cls := "ResourceLedger$Reader", name := "functionOf", desc := "(LResourceLedger$Function;)V" } : Jvm.MethodName) prog_16_method_14_code (4 : Nat) (Option.none : Option Jvm.ClassFile.FieldType)) ∈ lw_all := lw_g (lw_at lw_m4 239 rfl) rfl
theorem q1224 : (Jvm.Cond.methodLink "ResourceLedger$Reader" (178 : Nat) ({ cls := "ResourceLedger$Reader", name := "instruction", desc := "()V" } : Jvm.MethodName)) ∈ lw_all := lw_g (lw_at lw_m5 0 rfl) rfl
theorem q1225 : (Jvm.Cond.privateMethod ({ cls := "ResourceLedger$Reader", name := "instruction", desc := "()V" } : Jvm.MethodName)) ∈ lw_tbl := lw_at lw_m5 1 rfl
theorem q1226 : (Jvm.Cond.instanceMethod ({ cls := "ResourceLedger$Reader", name := "instruction", desc := "()V" } : Jvm.MethodName)) ∈ lw_all := lw_g (lw_at lw_m5 2 rfl) rfl
theorem q1227 : (Jvm.Cond.code ({ cls := "ResourceLedger$Reader", name := "instruction", desc := "()V" } : Jvm.MethodName) prog_16_method_13_code (8 : Nat) (Option.none : Option Jvm.ClassFile.FieldType)) ∈ lw_all := lw_g (lw_at lw_m5 3 rfl) rfl
theorem q1228 : (Jvm.Cond.methodLinkNest "ResourceLedger$Reader" (151 : Nat) ({ cls := "ResourceLedger", name := "formOf", desc := "(I)LResourceLedger$Form;" } : Jvm.MethodName) "ResourceLedger") ∈ lw_tbl := lw_at lw_m5 4 rfl
theorem q1253 : (Jvm.Cond.fieldLink "ResourceLedger$Reader" (160 : Nat) "ResourceLedger$Form" "MAKE" "LResourceLedger$Form;") ∈ lw_all := lw_g (lw_at lw_m5 29 rfl) rfl
theorem q1254 : (Jvm.Cond.methodLink "ResourceLedger$Reader" (171 : Nat) ({ cls := "ResourceLedger$Code", name := "add", desc := "(IJJI)V" } : Jvm.MethodName)) ∈ lw_all := lw_g (lw_at lw_m5 30 rfl) rfl
theorem q1258 : (Jvm.Cond.methodLink "ResourceLedger$Reader" (260 : Nat) ({ cls := "ResourceLedger$Reader", name := "bounds", desc := "()V" } : Jvm.MethodName)) ∈ lw_all := lw_g (lw_at lw_m5 34 rfl) rfl
theorem q1259 : (Jvm.Cond.privateMethod ({ cls := "ResourceLedger$Reader", name := "bounds", desc := "()V" } : Jvm.MethodName)) ∈ lw_tbl := lw_at lw_m5 35 rfl
theorem q1260 : (Jvm.Cond.instanceMethod ({ cls := "ResourceLedger$Reader", name := "bounds", desc := "()V" } : Jvm.MethodName)) ∈ lw_all := lw_g (lw_at lw_m5 36 rfl) rfl
theorem q1261 : (Jvm.Cond.code ({ cls := "ResourceLedger$Reader", name := "bounds", desc := "()V" } : Jvm.MethodName) prog_16_method_19_code (4 : Nat) (Option.none : Option Jvm.ClassFile.FieldType)) ∈ lw_all := lw_g (lw_at lw_m5 37 rfl) rfl
theorem q1262 : (Jvm.Cond.methodLink "ResourceLedger$Reader" (239 : Nat) ({ cls := "ResourceLedger$Reader", name := "typesTo", desc := "(I)V" } : Jvm.MethodName)) ∈ lw_all := lw_g (lw_at lw_m5 38 rfl) rfl
theorem q1263 : (Jvm.Cond.privateMethod ({ cls := "ResourceLedger$Reader", name := "typesTo", desc := "(I)V" } : Jvm.MethodName)) ∈ lw_tbl := lw_at lw_m5 39 rfl
theorem q1264 : (Jvm.Cond.instanceMethod ({ cls := "ResourceLedger$Reader", name := "typesTo", desc := "(I)V" } : Jvm.MethodName)) ∈ lw_all := lw_g (lw_at lw_m5 40 rfl) rfl
theorem q1265 : (Jvm.Cond.code ({ cls := "ResourceLedger$Reader", name := "typesTo", desc := "(I)V" } : Jvm.MethodName) prog_16_method_16_code (5 : Nat) (Option.none : Option Jvm.ClassFile.FieldType)) ∈ lw_all := lw_g (lw_at lw_m5 41 rfl) rfl
theorem q1266 : (Jvm.Cond.constantLong "ResourceLedger$Reader" (210 : Nat) (255 : Int64)) ∈ lw_all := lw_g (lw_at lw_m5 42 rfl) rfl
theorem q1267 : (Jvm.Cond.constantLong "ResourceLedger$Reader" (212 : Nat) (6 : Int64)) ∈ lw_all := lw_g (lw_at lw_m5 43 rfl) rfl
theorem q1268 : (Jvm.Cond.methodLink "ResourceLedger$Reader" (214 : Nat) ({ cls := "ResourceLedger$Tables", name := "structureCount", desc := "()I" } : Jvm.MethodName)) ∈ lw_all := lw_g (lw_at lw_m5 44 rfl) rfl
theorem q1272 : (Jvm.Cond.methodLink "ResourceLedger$Reader" (243 : Nat) ({ cls := "ResourceLedger$Reader", name := "operands", desc := "(LResourceLedger$Function;I)V" } : Jvm.MethodName)) ∈ lw_all := lw_g (lw_at lw_m5 48 rfl) rfl
theorem q1273 : (Jvm.Cond.privateMethod ({ cls := "ResourceLedger$Reader", name := "operands", desc := "(LResourceLedger$Function;I)V" } : Jvm.MethodName)) ∈ lw_tbl := lw_at lw_m5 49 rfl
theorem q1274 : (Jvm.Cond.instanceMethod ({ cls := "ResourceLedger$Reader", name := "operands", desc := "(LResourceLedger$Function;I)V" } : Jvm.MethodName)) ∈ lw_all := lw_g (lw_at lw_m5 50 rfl) rfl
theorem q1275 : (Jvm.Cond.code ({ cls := "ResourceLedger$Reader", name := "operands", desc := "(LResourceLedger$Function;I)V" } : Jvm.MethodName) prog_16_method_18_code (5 : Nat) (Option.none : Option Jvm.ClassFile.FieldType)) ∈ lw_all := lw_g (lw_at lw_m5 51 rfl) rfl
theorem q1276 : (Jvm.Cond.methodLink "ResourceLedger$Reader" (224 : Nat) ({ cls := "ResourceLedger$Form", name := "ordinal", desc := "()I" } : Jvm.MethodName)) ∈ lw_all := lw_g (lw_at lw_m5 52 rfl) rfl
theorem q1282 : (Jvm.Cond.methodLink "ResourceLedger$Reader" (227 : Nat) ({ cls := "ResourceLedger$Reader", name := "structureOperand", desc := "(II)V" } : Jvm.MethodName)) ∈ lw_all := lw_g (lw_at lw_m5 58 rfl) rfl
theorem q1283 : (Jvm.Cond.privateMethod ({ cls := "ResourceLedger$Reader", name := "structureOperand", desc := "(II)V" } : Jvm.MethodName)) ∈ lw_tbl := lw_at lw_m5 59 rfl
theorem q1284 : (Jvm.Cond.instanceMethod ({ cls := "ResourceLedger$Reader", name := "structureOperand", desc := "(II)V" } : Jvm.MethodName)) ∈ lw_all := lw_g (lw_at lw_m5 60 rfl) rfl
theorem q1285 : (Jvm.Cond.code ({ cls := "ResourceLedger$Reader", name := "structureOperand", desc := "(II)V" } : Jvm.MethodName) prog_16_method_17_code (3 : Nat) (Option.none : Option Jvm.ClassFile.FieldType)) ∈ lw_all := lw_g (lw_at lw_m5 61 rfl) rfl
theorem q1286 : (Jvm.Cond.methodLink "ResourceLedger$Reader" (233 : Nat) ({ cls := "ResourceLedger$Function", name := "localCount", desc := "()I" } : Jvm.MethodName)) ∈ lw_all := lw_g (lw_at lw_m5 62 rfl) rfl
theorem q1290 : (Jvm.Cond.methodLink "ResourceLedger$Reader" (236 : Nat) ({ cls := "ResourceLedger$Tables", name := "functionCount", desc := "()I" } : Jvm.MethodName)) ∈ lw_all := lw_g (lw_at lw_m5 66 rfl) rfl
theorem q1294 : (Jvm.Cond.methodLink "ResourceLedger$Reader" (263 : Nat) ({ cls := "ResourceLedger$Reader", name := "itself", desc := "()V" } : Jvm.MethodName)) ∈ lw_all := lw_g (lw_at lw_m5 70 rfl) rfl
theorem q1295 : (Jvm.Cond.privateMethod ({ cls := "ResourceLedger$Reader", name := "itself", desc := "()V" } : Jvm.MethodName)) ∈ lw_tbl := lw_at lw_m5 71 rfl
theorem q1296 : (Jvm.Cond.instanceMethod ({ cls := "ResourceLedger$Reader", name := "itself", desc := "()V" } : Jvm.MethodName)) ∈ lw_all := lw_g (lw_at lw_m5 72 rfl) rfl
theorem q1297 : (Jvm.Cond.code ({ cls := "ResourceLedger$Reader", name := "itself", desc := "()V" } : Jvm.MethodName) prog_16_method_21_code (4 : Nat) (Option.none : Option Jvm.ClassFile.FieldType)) ∈ lw_all := lw_g (lw_at lw_m5 73 rfl) rfl
theorem q1298 : (Jvm.Cond.methodLink "ResourceLedger$Reader" (251 : Nat) ({ cls := "ResourceLedger$Reader", name := "directly", desc := "(LResourceLedger$Structure;)J" } : Jvm.MethodName)) ∈ lw_all := lw_g (lw_at lw_m5 74 rfl) rfl
theorem q1299 : (Jvm.Cond.privateMethod ({ cls := "ResourceLedger$Reader", name := "directly", desc := "(LResourceLedger$Structure;)J" } : Jvm.MethodName)) ∈ lw_tbl := lw_at lw_m5 75 rfl
theorem q1300 : (Jvm.Cond.instanceMethod ({ cls := "ResourceLedger$Reader", name := "directly", desc := "(LResourceLedger$Structure;)J" } : Jvm.MethodName)) ∈ lw_all := lw_g (lw_at lw_m5 76 rfl) rfl
theorem q1301 : (Jvm.Cond.code ({ cls := "ResourceLedger$Reader", name := "directly", desc := "(LResourceLedger$Structure;)J" } : Jvm.MethodName) prog_16_method_20_code (7 : Nat) (Option.some Jvm.ClassFile.FieldType.long)) ∈ lw_all := lw_g (lw_at lw_m5 77 rfl) rfl
theorem q1302 : (Jvm.Cond.methodLink "ResourceLedger$Reader" (247 : Nat) ({ cls := "ResourceLedger$Span", name := "get", desc := "(LResourceLedger$Types;I)J" } : Jvm.MethodName)) ∈ lw_all := lw_g (lw_at lw_m5 78 rfl) rfl
theorem q3745 : (Jvm.Cond.fieldLinkNest "ResourceLedger$Reader" (155 : Nat) "ResourceLedger$Form" "first" "I" "ResourceLedger") ∈ lw_tbl := lw_at lw_m15 121 rfl
theorem q3746 : (Jvm.Cond.fieldLinkNest "ResourceLedger$Reader" (164 : Nat) "ResourceLedger$Form" "second" "I" "ResourceLedger") ∈ lw_tbl := lw_at lw_m15 122 rfl
theorem in_X12 : ∀ w ∈ wsX120, w ∈ lw_all := lw_in wsX120 [717, 719, 721, 723, 725, 727, 729, 731, 733] (by decide +kernel) (by decide +kernel)
end
section
-- java/lang/Throwable
set_option maxRecDepth 100000
def RJ0 : String := "java/lang/Throwable"
def TJ0 : u_T := fun k => match k with
  | 0 => ("java/lang/Throwable", "cause", "Ljava/lang/Throwable;", false)
  | 1 => ("java/lang/Throwable", "stackTrace", "[Ljava/lang/StackTraceElement;", false)
  | 2 => ("java/lang/Throwable", "suppressedExceptions", "Ljava/util/List;", false)
  | 3 => ("java/lang/Throwable", "detailMessage", "Ljava/lang/String;", false)
  | _ => ("java/lang/Throwable", "backtrace", "Ljava/lang/Object;", false)
def tyJ0 : Nat → FieldType := fun k => match k with
  | 0 => .object "java/lang/Throwable"
  | 1 => .array (.object "java/lang/StackTraceElement")
  | 2 => .object "java/util/List"
  | 3 => .object "java/lang/String"
  | _ => .object "java/lang/Object"
abbrev wsJ00 : List Cond := u_ws RJ0 TJ0 5
theorem nmJ0 : ∀ a, a < 5 → ∀ b, b < 5 → a ≠ b → (TJ0 a).2.1 ≠ (TJ0 b).2.1 := by decide +kernel
theorem tyJ0_ok : ∀ k, k < 5 → parseFieldDescriptor (TJ0 k).2.2.1 = some (tyJ0 k) := by decide +kernel
abbrev cJ0_init : ByteArray := prog_43_method_1_code
def yJ0_init : MethodName := ⟨RJ0, "<init>", "()V"⟩
abbrev cJ0_init_2 : ByteArray := prog_43_method_2_code
def yJ0_init_2 : MethodName := ⟨RJ0, "<init>", "(Ljava/lang/String;)V"⟩
theorem q277 : (Jvm.Cond.initialized "java/lang/Throwable") ∈ lw_all := lw_g (lw_at lw_m1 13 rfl) rfl
theorem q646 : (Jvm.Cond.declares ({ cls := "java/lang/Throwable", name := "<init>", desc := "()V" } : Jvm.MethodName)) ∈ lw_tbl := lw_at lw_m2 142 rfl
theorem q647 : (Jvm.Cond.declares ({ cls := "java/lang/Throwable", name := "<init>", desc := "(Ljava/lang/String;)V" } : Jvm.MethodName)) ∈ lw_tbl := lw_at lw_m2 143 rfl
theorem q651 : (Jvm.Cond.lays "java/lang/Throwable" "java/lang/Throwable" "cause" "Ljava/lang/Throwable;") ∈ lw_all := lw_g (lw_at lw_m2 147 rfl) rfl
theorem q653 : (Jvm.Cond.lays "java/lang/Throwable" "java/lang/Throwable" "stackTrace" "[Ljava/lang/StackTraceElement;") ∈ lw_all := lw_g (lw_at lw_m2 149 rfl) rfl
theorem q655 : (Jvm.Cond.lays "java/lang/Throwable" "java/lang/Throwable" "suppressedExceptions" "Ljava/util/List;") ∈ lw_all := lw_g (lw_at lw_m2 151 rfl) rfl
theorem q657 : (Jvm.Cond.lays "java/lang/Throwable" "java/lang/Throwable" "detailMessage" "Ljava/lang/String;") ∈ lw_all := lw_g (lw_at lw_m2 153 rfl) rfl
theorem q659 : (Jvm.Cond.lays "java/lang/Throwable" "java/lang/Throwable" "backtrace" "Ljava/lang/Object;") ∈ lw_all := lw_g (lw_at lw_m2 155 rfl) rfl
theorem q660 : (Jvm.Cond.fieldLink "java/lang/Throwable" (198 : Nat) "java/lang/Throwable" "backtrace" "Ljava/lang/Object;") ∈ lw_all := lw_g (lw_at lw_m2 156 rfl) rfl
theorem q661 : (Jvm.Cond.superclass "java/lang/Throwable" "java/lang/Object") ∈ lw_all := lw_g (lw_at lw_m2 157 rfl) rfl
theorem q662 : (Jvm.Cond.instanceMethod ({ cls := "java/lang/Throwable", name := "<init>", desc := "()V" } : Jvm.MethodName)) ∈ lw_all := lw_g (lw_at lw_m2 158 rfl) rfl
theorem q663 : (Jvm.Cond.code ({ cls := "java/lang/Throwable", name := "<init>", desc := "()V" } : Jvm.MethodName) prog_43_method_1_code (1 : Nat) (Option.none : Option Jvm.ClassFile.FieldType)) ∈ lw_all := lw_g (lw_at lw_m2 159 rfl) rfl
theorem q664 : (Jvm.Cond.methodLink "java/lang/Throwable" (1 : Nat) ({ cls := "java/lang/Object", name := "<init>", desc := "()V" } : Jvm.MethodName)) ∈ lw_all := lw_g (lw_at lw_m2 160 rfl) rfl
theorem q665 : (Jvm.Cond.fieldLink "java/lang/Throwable" (13 : Nat) "java/lang/Throwable" "UNASSIGNED_STACK" "[Ljava/lang/StackTraceElement;") ∈ lw_all := lw_g (lw_at lw_m2 161 rfl) rfl
theorem q666 : (Jvm.Cond.laysStatic "java/lang/Throwable" "UNASSIGNED_STACK" "[Ljava/lang/StackTraceElement;") ∈ lw_tbl := lw_at lw_m2 162 rfl
theorem q667 : (Jvm.Cond.fieldLink "java/lang/Throwable" (20 : Nat) "java/lang/Throwable" "SUPPRESSED_SENTINEL" "Ljava/util/List;") ∈ lw_all := lw_g (lw_at lw_m2 163 rfl) rfl
theorem q668 : (Jvm.Cond.laysStatic "java/lang/Throwable" "SUPPRESSED_SENTINEL" "Ljava/util/List;") ∈ lw_tbl := lw_at lw_m2 164 rfl
theorem q669 : (Jvm.Cond.methodLink "java/lang/Throwable" (27 : Nat) ({ cls := "java/lang/Throwable", name := "fillInStackTrace", desc := "()Ljava/lang/Throwable;" } : Jvm.MethodName)) ∈ lw_all := lw_g (lw_at lw_m2 165 rfl) rfl
theorem q670 : (Jvm.Cond.instanceMethod ({ cls := "java/lang/Throwable", name := "fillInStackTrace", desc := "()Ljava/lang/Throwable;" } : Jvm.MethodName)) ∈ lw_all := lw_g (lw_at lw_m2 166 rfl) rfl
theorem q671 : (Jvm.Cond.sameMethod "java/lang/Throwable" "java/lang/Throwable" "fillInStackTrace" "()Ljava/lang/Throwable;") ∈ lw_all := lw_g (lw_at lw_m2 167 rfl) rfl
theorem q673 : (Jvm.Cond.codeSync ({ cls := "java/lang/Throwable", name := "fillInStackTrace", desc := "()Ljava/lang/Throwable;" } : Jvm.MethodName) prog_43_method_18_code (1 : Nat) (Option.some (Jvm.ClassFile.FieldType.object "java/lang/Throwable"))) ∈ lw_all := lw_g (lw_at lw_m2 169 rfl) rfl
theorem q674 : (Jvm.Cond.methodLink "java/lang/Throwable" (202 : Nat) ({ cls := "java/lang/Throwable", name := "fillInStackTrace", desc := "(I)Ljava/lang/Throwable;" } : Jvm.MethodName)) ∈ lw_all := lw_g (lw_at lw_m2 170 rfl) rfl
theorem q675 : (Jvm.Cond.privateMethod ({ cls := "java/lang/Throwable", name := "fillInStackTrace", desc := "(I)Ljava/lang/Throwable;" } : Jvm.MethodName)) ∈ lw_tbl := lw_at lw_m2 171 rfl
theorem q676 : (Jvm.Cond.instanceMethod ({ cls := "java/lang/Throwable", name := "fillInStackTrace", desc := "(I)Ljava/lang/Throwable;" } : Jvm.MethodName)) ∈ lw_all := lw_g (lw_at lw_m2 172 rfl) rfl
theorem q677 : (Jvm.Cond.instantiable "java/lang/Throwable" (6 : Nat)) ∈ lw_all := lw_g (lw_at lw_m2 173 rfl) rfl
theorem q678 : (Jvm.Cond.native ({ cls := "java/lang/Throwable", name := "fillInStackTrace", desc := "(I)Ljava/lang/Throwable;" } : Jvm.MethodName)) ∈ lw_all := lw_g (lw_at lw_m2 174 rfl) rfl
theorem q690 : (Jvm.Cond.instanceMethod ({ cls := "java/lang/Throwable", name := "<init>", desc := "(Ljava/lang/String;)V" } : Jvm.MethodName)) ∈ lw_all := lw_g (lw_at lw_m2 186 rfl) rfl
theorem q691 : (Jvm.Cond.code ({ cls := "java/lang/Throwable", name := "<init>", desc := "(Ljava/lang/String;)V" } : Jvm.MethodName) prog_43_method_2_code (2 : Nat) (Option.none : Option Jvm.ClassFile.FieldType)) ∈ lw_all := lw_g (lw_at lw_m2 187 rfl) rfl
theorem q692 : (Jvm.Cond.fieldLink "java/lang/Throwable" (198 : Nat) "java/lang/Throwable" "backtrace" "Ljava/lang/Object;") ∈ lw_all := lw_g (lw_at lw_m2 188 rfl) rfl
theorem q693 : (Jvm.Cond.fieldLink "java/lang/Throwable" (31 : Nat) "java/lang/Throwable" "detailMessage" "Ljava/lang/String;") ∈ lw_all := lw_g (lw_at lw_m2 189 rfl) rfl
theorem q694 : (Jvm.Cond.fieldLink "java/lang/Throwable" (7 : Nat) "java/lang/Throwable" "cause" "Ljava/lang/Throwable;") ∈ lw_all := lw_g (lw_at lw_m2 190 rfl) rfl
theorem q695 : (Jvm.Cond.fieldLink "java/lang/Throwable" (17 : Nat) "java/lang/Throwable" "stackTrace" "[Ljava/lang/StackTraceElement;") ∈ lw_all := lw_g (lw_at lw_m2 191 rfl) rfl
theorem q696 : (Jvm.Cond.fieldLink "java/lang/Throwable" (24 : Nat) "java/lang/Throwable" "suppressedExceptions" "Ljava/util/List;") ∈ lw_all := lw_g (lw_at lw_m2 192 rfl) rfl
theorem q697 : (Jvm.Cond.soleField "java/lang/Throwable" "backtrace") ∈ lw_all := lw_g (lw_at lw_m2 193 rfl) rfl
theorem q698 : (Jvm.Cond.soleField "java/lang/Throwable" "detailMessage") ∈ lw_all := lw_g (lw_at lw_m2 194 rfl) rfl
theorem q699 : (Jvm.Cond.soleField "java/lang/Throwable" "cause") ∈ lw_all := lw_g (lw_at lw_m2 195 rfl) rfl
theorem q700 : (Jvm.Cond.soleField "java/lang/Throwable" "stackTrace") ∈ lw_all := lw_g (lw_at lw_m2 196 rfl) rfl
theorem q702 : (Jvm.Cond.soleField "java/lang/Throwable" "depth") ∈ lw_all := lw_g (lw_at lw_m2 198 rfl) rfl
theorem q703 : (Jvm.Cond.soleField "java/lang/Throwable" "suppressedExceptions") ∈ lw_all := lw_g (lw_at lw_m2 199 rfl) rfl
theorem q3744 : (Jvm.Cond.sameMethod "java/lang/Throwable" "java/lang/Throwable" "fillInStackTrace" "(I)Ljava/lang/Throwable;") ∈ lw_all := lw_g (lw_at lw_m15 120 rfl) rfl
theorem in_J0 : ∀ w ∈ wsJ00, w ∈ lw_all := lw_in wsJ00 [651, 653, 655, 657, 659] (by decide +kernel) (by decide +kernel)
end
section
-- java/lang/Exception
set_option maxRecDepth 100000
def RJ1 : String := "java/lang/Exception"
abbrev cJ1_init : ByteArray := prog_35_method_2_code
def yJ1_init : MethodName := ⟨RJ1, "<init>", "(Ljava/lang/String;)V"⟩
theorem q278 : (Jvm.Cond.initialized "java/lang/Exception") ∈ lw_all := lw_g (lw_at lw_m1 14 rfl) rfl
theorem q644 : (Jvm.Cond.declares ({ cls := "java/lang/Exception", name := "<init>", desc := "()V" } : Jvm.MethodName)) ∈ lw_tbl := lw_at lw_m2 140 rfl
theorem q645 : (Jvm.Cond.declares ({ cls := "java/lang/Exception", name := "<init>", desc := "(Ljava/lang/String;)V" } : Jvm.MethodName)) ∈ lw_tbl := lw_at lw_m2 141 rfl
theorem q687 : (Jvm.Cond.instanceMethod ({ cls := "java/lang/Exception", name := "<init>", desc := "(Ljava/lang/String;)V" } : Jvm.MethodName)) ∈ lw_all := lw_g (lw_at lw_m2 183 rfl) rfl
theorem q688 : (Jvm.Cond.code ({ cls := "java/lang/Exception", name := "<init>", desc := "(Ljava/lang/String;)V" } : Jvm.MethodName) prog_35_method_2_code (2 : Nat) (Option.none : Option Jvm.ClassFile.FieldType)) ∈ lw_all := lw_g (lw_at lw_m2 184 rfl) rfl
theorem q689 : (Jvm.Cond.methodLink "java/lang/Exception" (7 : Nat) ({ cls := "java/lang/Throwable", name := "<init>", desc := "(Ljava/lang/String;)V" } : Jvm.MethodName)) ∈ lw_all := lw_g (lw_at lw_m2 185 rfl) rfl
end
section
-- java/lang/RuntimeException
set_option maxRecDepth 100000
def RJ2 : String := "java/lang/RuntimeException"
abbrev cJ2_init : ByteArray := prog_41_method_2_code
def yJ2_init : MethodName := ⟨RJ2, "<init>", "(Ljava/lang/String;)V"⟩
theorem q279 : (Jvm.Cond.initialized "java/lang/RuntimeException") ∈ lw_all := lw_g (lw_at lw_m1 15 rfl) rfl
theorem q642 : (Jvm.Cond.declares ({ cls := "java/lang/RuntimeException", name := "<init>", desc := "()V" } : Jvm.MethodName)) ∈ lw_tbl := lw_at lw_m2 138 rfl
theorem q643 : (Jvm.Cond.declares ({ cls := "java/lang/RuntimeException", name := "<init>", desc := "(Ljava/lang/String;)V" } : Jvm.MethodName)) ∈ lw_tbl := lw_at lw_m2 139 rfl
theorem q684 : (Jvm.Cond.instanceMethod ({ cls := "java/lang/RuntimeException", name := "<init>", desc := "(Ljava/lang/String;)V" } : Jvm.MethodName)) ∈ lw_all := lw_g (lw_at lw_m2 180 rfl) rfl
theorem q685 : (Jvm.Cond.code ({ cls := "java/lang/RuntimeException", name := "<init>", desc := "(Ljava/lang/String;)V" } : Jvm.MethodName) prog_41_method_2_code (2 : Nat) (Option.none : Option Jvm.ClassFile.FieldType)) ∈ lw_all := lw_g (lw_at lw_m2 181 rfl) rfl
theorem q686 : (Jvm.Cond.methodLink "java/lang/RuntimeException" (7 : Nat) ({ cls := "java/lang/Exception", name := "<init>", desc := "(Ljava/lang/String;)V" } : Jvm.MethodName)) ∈ lw_all := lw_g (lw_at lw_m2 182 rfl) rfl
end
section
-- java/lang/IllegalArgumentException
set_option maxRecDepth 100000
def RJ3 : String := "java/lang/IllegalArgumentException"
def TJ3 : u_T := fun k => match k with
  | 0 => ("java/lang/Throwable", "cause", "Ljava/lang/Throwable;", false)
  | 1 => ("java/lang/Throwable", "stackTrace", "[Ljava/lang/StackTraceElement;", false)
  | 2 => ("java/lang/Throwable", "suppressedExceptions", "Ljava/util/List;", false)
  | 3 => ("java/lang/Throwable", "detailMessage", "Ljava/lang/String;", false)
  | 4 => ("java/lang/Throwable", "backtrace", "Ljava/lang/Object;", false)
  | _ => ("java/lang/Throwable", "depth", "I", false)
def tyJ3 : Nat → FieldType := fun k => match k with
  | 0 => .object "java/lang/Throwable"
  | 1 => .array (.object "java/lang/StackTraceElement")
  | 2 => .object "java/util/List"
  | 3 => .object "java/lang/String"
  | 4 => .object "java/lang/Object"
  | _ => .int
abbrev wsJ30 : List Cond := u_ws RJ3 TJ3 6
theorem nmJ3 : ∀ a, a < 6 → ∀ b, b < 6 → a ≠ b → (TJ3 a).2.1 ≠ (TJ3 b).2.1 := by decide +kernel
theorem tyJ3_ok : ∀ k, k < 6 → parseFieldDescriptor (TJ3 k).2.2.1 = some (tyJ3 k) := by decide +kernel
abbrev cJ3_init : ByteArray := prog_36_method_2_code
def yJ3_init : MethodName := ⟨RJ3, "<init>", "(Ljava/lang/String;)V"⟩
theorem q280 : (Jvm.Cond.initialized "java/lang/IllegalArgumentException") ∈ lw_all := lw_g (lw_at lw_m1 16 rfl) rfl
theorem q640 : (Jvm.Cond.instantiable "java/lang/IllegalArgumentException" (6 : Nat)) ∈ lw_all := lw_g (lw_at lw_m2 136 rfl) rfl
theorem q641 : (Jvm.Cond.castable "java/lang/IllegalArgumentException" "java/lang/IllegalArgumentException") ∈ lw_tbl := lw_at lw_m2 137 rfl
theorem q648 : (Jvm.Cond.selects "java/lang/IllegalArgumentException" ({ cls := "java/lang/Throwable", name := "fillInStackTrace", desc := "(I)Ljava/lang/Throwable;" } : Jvm.MethodName) ({ cls := "java/lang/Throwable", name := "fillInStackTrace", desc := "(I)Ljava/lang/Throwable;" } : Jvm.MethodName)) ∈ lw_all := lw_g (lw_at lw_m2 144 rfl) rfl
theorem q649 : (Jvm.Cond.selects "java/lang/IllegalArgumentException" ({ cls := "java/lang/Throwable", name := "fillInStackTrace", desc := "()Ljava/lang/Throwable;" } : Jvm.MethodName) ({ cls := "java/lang/Throwable", name := "fillInStackTrace", desc := "()Ljava/lang/Throwable;" } : Jvm.MethodName)) ∈ lw_all := lw_g (lw_at lw_m2 145 rfl) rfl
theorem q650 : (Jvm.Cond.lays "java/lang/IllegalArgumentException" "java/lang/Throwable" "cause" "Ljava/lang/Throwable;") ∈ lw_all := lw_g (lw_at lw_m2 146 rfl) rfl
theorem q652 : (Jvm.Cond.lays "java/lang/IllegalArgumentException" "java/lang/Throwable" "stackTrace" "[Ljava/lang/StackTraceElement;") ∈ lw_all := lw_g (lw_at lw_m2 148 rfl) rfl
theorem q654 : (Jvm.Cond.lays "java/lang/IllegalArgumentException" "java/lang/Throwable" "suppressedExceptions" "Ljava/util/List;") ∈ lw_all := lw_g (lw_at lw_m2 150 rfl) rfl
theorem q656 : (Jvm.Cond.lays "java/lang/IllegalArgumentException" "java/lang/Throwable" "detailMessage" "Ljava/lang/String;") ∈ lw_all := lw_g (lw_at lw_m2 152 rfl) rfl
theorem q658 : (Jvm.Cond.lays "java/lang/IllegalArgumentException" "java/lang/Throwable" "backtrace" "Ljava/lang/Object;") ∈ lw_all := lw_g (lw_at lw_m2 154 rfl) rfl
theorem q681 : (Jvm.Cond.instanceMethod ({ cls := "java/lang/IllegalArgumentException", name := "<init>", desc := "(Ljava/lang/String;)V" } : Jvm.MethodName)) ∈ lw_all := lw_g (lw_at lw_m2 177 rfl) rfl
theorem q682 : (Jvm.Cond.code ({ cls := "java/lang/IllegalArgumentException", name := "<init>", desc := "(Ljava/lang/String;)V" } : Jvm.MethodName) prog_36_method_2_code (2 : Nat) (Option.none : Option Jvm.ClassFile.FieldType)) ∈ lw_all := lw_g (lw_at lw_m2 178 rfl) rfl
theorem q683 : (Jvm.Cond.methodLink "java/lang/IllegalArgumentException" (7 : Nat) ({ cls := "java/lang/RuntimeException", name := "<init>", desc := "(Ljava/lang/String;)V" } : Jvm.MethodName)) ∈ lw_all := lw_g (lw_at lw_m2 179 rfl) rfl
theorem q701 : (Jvm.Cond.lays "java/lang/IllegalArgumentException" "java/lang/Throwable" "depth" "I") ∈ lw_all := lw_g (lw_at lw_m2 197 rfl) rfl
theorem q704 : (Jvm.Cond.superclass "java/lang/IllegalArgumentException" "java/lang/RuntimeException") ∈ lw_all := lw_g (lw_at lw_m2 200 rfl) rfl
theorem in_J3 : ∀ w ∈ wsJ30, w ∈ lw_all := lw_in wsJ30 [650, 652, 654, 656, 658, 701] (by decide +kernel) (by decide +kernel)
end
section
-- ResourceLedger$Checker
set_option maxRecDepth 100000
def RX13 : String := "ResourceLedger$Checker"
def TX13 : u_T := fun k => match k with
  | 0 => ("ResourceLedger$Checker", "states", "LResourceLedger$Checker$States;", true)
  | 1 => ("ResourceLedger$Checker", "tables", "LResourceLedger$Tables;", false)
  | 2 => ("ResourceLedger$Checker", "f", "LResourceLedger$Function;", false)
  | 3 => ("ResourceLedger$Checker", "at", "I", false)
  | 4 => ("ResourceLedger$Checker", "stack", "[J", true)
  | 5 => ("ResourceLedger$Checker", "stackOrigins", "[J", true)
  | 6 => ("ResourceLedger$Checker", "height", "I", false)
  | 7 => ("ResourceLedger$Checker", "there", "J", false)
  | 8 => ("ResourceLedger$Checker", "origins", "[J", true)
  | 9 => ("ResourceLedger$Checker", "taken", "J", false)
  | 10 => ("ResourceLedger$Checker", "takenOrigins", "J", false)
  | 11 => ("ResourceLedger$Checker", "given", "[J", true)
  | 12 => ("ResourceLedger$Checker", "givenOrigins", "[J", true)
  | 13 => ("ResourceLedger$Checker", "leads", "[Z", true)
  | 14 => ("ResourceLedger$Checker", "wrong", "Ljava/lang/IllegalStateException;", true)
  | _ => ("ResourceLedger$Checker", "why", "I", false)
def tyX13 : Nat → FieldType := fun k => match k with
  | 0 => .object "ResourceLedger$Checker$States"
  | 1 => .object "ResourceLedger$Tables"
  | 2 => .object "ResourceLedger$Function"
  | 3 => .int
  | 4 => .array .long
  | 5 => .array .long
  | 6 => .int
  | 7 => .long
  | 8 => .array .long
  | 9 => .long
  | 10 => .long
  | 11 => .array .long
  | 12 => .array .long
  | 13 => .array .boolean
  | 14 => .object "java/lang/IllegalStateException"
  | _ => .int
abbrev wsX130 : List Cond := u_ws RX13 TX13 16
set_option maxRecDepth 100000 in
theorem nmX13 : ∀ a, a < 16 → ∀ b, b < 16 → a ≠ b → (TX13 a).2.1 ≠ (TX13 b).2.1 := by decide +kernel
set_option maxRecDepth 100000 in
theorem tyX13_ok : ∀ k, k < 16 → parseFieldDescriptor (TX13 k).2.2.1 = some (tyX13 k) := by decide +kernel
abbrev cX13_init : ByteArray := prog_2_method_1_code
def yX13_init : MethodName := ⟨RX13, "<init>", "()V"⟩
abbrev cX13_doesBear : ByteArray := prog_2_method_5_code
def yX13_doesBear : MethodName := ⟨RX13, "doesBear", "(LResourceLedger$Tables;LResourceLedger$Structure;)Z"⟩
abbrev cX13_abilitiesOf : ByteArray := prog_2_method_3_code
def yX13_abilitiesOf : MethodName := ⟨RX13, "abilitiesOf", "(LResourceLedger$Tables;J)I"⟩
abbrev cX13_check : ByteArray := prog_2_method_42_code
def yX13_check : MethodName := ⟨RX13, "check", "(LResourceLedger$Tables;LResourceLedger$Function;)I"⟩
abbrev cX13_begin : ByteArray := prog_2_method_40_code
def yX13_begin : MethodName := ⟨RX13, "begin", "()V"⟩
abbrev cX13_localType : ByteArray := prog_2_method_7_code
def yX13_localType : MethodName := ⟨RX13, "localType", "(I)J"⟩
abbrev cX13_first : ByteArray := prog_2_method_33_code
def yX13_first : MethodName := ⟨RX13, "first", "(I)V"⟩
abbrev cX13_all : ByteArray := prog_2_method_41_code
def yX13_all : MethodName := ⟨RX13, "all", "()V"⟩
abbrev cX13_one : ByteArray := prog_2_method_39_code
def yX13_one : MethodName := ⟨RX13, "one", "(Z)V"⟩
abbrev cX13_need : ByteArray := prog_2_method_9_code
def yX13_need : MethodName := ⟨RX13, "need", "(ZI)V"⟩
abbrev cX13_fail : ByteArray := prog_2_method_8_code
def yX13_fail : MethodName := ⟨RX13, "fail", "(I)V"⟩
abbrev cX13_doOne : ByteArray := prog_2_method_37_code
def yX13_doOne : MethodName := ⟨RX13, "doOne", "(III)V"⟩
abbrev cX13_take : ByteArray := prog_2_method_10_code
def yX13_take : MethodName := ⟨RX13, "take", "()V"⟩
abbrev cX13_needAbility : ByteArray := prog_2_method_15_code
def yX13_needAbility : MethodName := ⟨RX13, "needAbility", "(JI)V"⟩
abbrev cX13_has : ByteArray := prog_2_method_4_code
def yX13_has : MethodName := ⟨RX13, "has", "(JI)Z"⟩
abbrev cX13_end : ByteArray := prog_2_method_30_code
def yX13_end : MethodName := ⟨RX13, "end", "()V"⟩
abbrev cX13_isThere : ByteArray := prog_2_method_19_code
def yX13_isThere : MethodName := ⟨RX13, "isThere", "(I)Z"⟩
abbrev cX13_branch : ByteArray := prog_2_method_36_code
def yX13_branch : MethodName := ⟨RX13, "branch", "(II)V"⟩
abbrev cX13_takeType : ByteArray := prog_2_method_11_code
def yX13_takeType : MethodName := ⟨RX13, "takeType", "(J)V"⟩
abbrev cX13_come : ByteArray := prog_2_method_32_code
def yX13_come : MethodName := ⟨RX13, "come", "(I)V"⟩
abbrev cX13_back : ByteArray := prog_2_method_35_code
def yX13_back : MethodName := ⟨RX13, "back", "(I)V"⟩
abbrev cX13_isDropped : ByteArray := prog_2_method_31_code
def yX13_isDropped : MethodName := ⟨RX13, "isDropped", "(I)Z"⟩
abbrev cX13_join : ByteArray := prog_2_method_34_code
def yX13_join : MethodName := ⟨RX13, "join", "(I)V"⟩
abbrev cX13_constant : ByteArray := prog_2_method_29_code
def yX13_constant : MethodName := ⟨RX13, "constant", "(I)V"⟩
abbrev cX13_put : ByteArray := prog_2_method_14_code
def yX13_put : MethodName := ⟨RX13, "put", "(JJ)V"⟩
abbrev cX13_useLocal : ByteArray := prog_2_method_20_code
def yX13_useLocal : MethodName := ⟨RX13, "useLocal", "(II)V"⟩
abbrev cX13_isLive : ByteArray := prog_2_method_17_code
def yX13_isLive : MethodName := ⟨RX13, "isLive", "(JI)Z"⟩
abbrev cX13_counts : ByteArray := prog_2_method_16_code
def yX13_counts : MethodName := ⟨RX13, "counts", "(JJI)Z"⟩
abbrev cX13_borrowField : ByteArray := prog_2_method_22_code
def yX13_borrowField : MethodName := ⟨RX13, "borrowField", "(ZII)V"⟩
abbrev cX13_takeReference : ByteArray := prog_2_method_12_code
def yX13_takeReference : MethodName := ⟨RX13, "takeReference", "(JZ)V"⟩
abbrev cX13_fieldOf : ByteArray := prog_2_method_6_code
def yX13_fieldOf : MethodName := ⟨RX13, "fieldOf", "(II)J"⟩
abbrev cX13_reference : ByteArray := prog_2_method_21_code
def yX13_reference : MethodName := ⟨RX13, "reference", "(I)V"⟩
abbrev cX13_needSole : ByteArray := prog_2_method_18_code
def yX13_needSole : MethodName := ⟨RX13, "needSole", "()V"⟩
abbrev cX13_pack : ByteArray := prog_2_method_23_code
def yX13_pack : MethodName := ⟨RX13, "pack", "(I)V"⟩
abbrev cX13_unpack : ByteArray := prog_2_method_24_code
def yX13_unpack : MethodName := ⟨RX13, "unpack", "(I)V"⟩
abbrev cX13_call : ByteArray := prog_2_method_25_code
def yX13_call : MethodName := ⟨RX13, "call", "(LResourceLedger$Function;)V"⟩
abbrev cX13_hasResources : ByteArray := prog_2_method_2_code
def yX13_hasResources : MethodName := ⟨RX13, "hasResources", "(LResourceLedger$Function;)Z"⟩
abbrev cX13_reckon : ByteArray := prog_2_method_28_code
def yX13_reckon : MethodName := ⟨RX13, "reckon", "(I)V"⟩
abbrev cX13_takeNumber : ByteArray := prog_2_method_13_code
def yX13_takeNumber : MethodName := ⟨RX13, "takeNumber", "()V"⟩
abbrev cX13_resource : ByteArray := prog_2_method_26_code
def yX13_resource : MethodName := ⟨RX13, "resource", "(II)V"⟩
abbrev cX13_vector : ByteArray := prog_2_method_27_code
def yX13_vector : MethodName := ⟨RX13, "vector", "(III)V"⟩
abbrev cX13_bytes : ByteArray := prog_2_method_38_code
def yX13_bytes : MethodName := ⟨RX13, "bytes", "()V"⟩
theorem q281 : (Jvm.Cond.initialized "ResourceLedger$Checker") ∈ lw_all := lw_g (lw_at lw_m1 17 rfl) rfl
theorem q364 : (Jvm.Cond.fieldLinkNest "ResourceLedger$Checker" (97 : Nat) "ResourceLedger$Span" "count" "I" "ResourceLedger") ∈ lw_tbl := lw_at lw_m1 100 rfl
theorem q380 : (Jvm.Cond.fieldLinkNest "ResourceLedger$Checker" (324 : Nat) "ResourceLedger$Code" "operations" "[B" "ResourceLedger") ∈ lw_tbl := lw_at lw_m1 116 rfl
theorem q384 : (Jvm.Cond.fieldLinkNest "ResourceLedger$Checker" (330 : Nat) "ResourceLedger$Code" "ones" "[J" "ResourceLedger") ∈ lw_tbl := lw_at lw_m1 120 rfl
theorem q388 : (Jvm.Cond.fieldLinkNest "ResourceLedger$Checker" (333 : Nat) "ResourceLedger$Code" "others" "[J" "ResourceLedger") ∈ lw_tbl := lw_at lw_m1 124 rfl
theorem q414 : (Jvm.Cond.fieldLinkNest "ResourceLedger$Checker" (80 : Nat) "ResourceLedger$Structure" "abilities" "I" "ResourceLedger") ∈ lw_tbl := lw_at lw_m1 150 rfl
theorem q419 : (Jvm.Cond.fieldLinkNest "ResourceLedger$Checker" (93 : Nat) "ResourceLedger$Structure" "fields" "LResourceLedger$Span;" "ResourceLedger") ∈ lw_tbl := lw_at lw_m1 155 rfl
theorem q444 : (Jvm.Cond.fieldLinkNest "ResourceLedger$Checker" (52 : Nat) "ResourceLedger$Function" "flags" "I" "ResourceLedger") ∈ lw_tbl := lw_at lw_m1 180 rfl
theorem q448 : (Jvm.Cond.fieldLinkNest "ResourceLedger$Checker" (118 : Nat) "ResourceLedger$Function" "takes" "LResourceLedger$Span;" "ResourceLedger") ∈ lw_tbl := lw_at lw_m1 184 rfl
theorem q454 : (Jvm.Cond.fieldLinkNest "ResourceLedger$Checker" (222 : Nat) "ResourceLedger$Function" "gives" "LResourceLedger$Span;" "ResourceLedger") ∈ lw_tbl := lw_at lw_m1 190 rfl
theorem q456 : (Jvm.Cond.fieldLinkNest "ResourceLedger$Checker" (121 : Nat) "ResourceLedger$Function" "locals" "LResourceLedger$Span;" "ResourceLedger") ∈ lw_tbl := lw_at lw_m1 192 rfl
theorem q459 : (Jvm.Cond.fieldLinkNest "ResourceLedger$Checker" (317 : Nat) "ResourceLedger$Function" "from" "I" "ResourceLedger") ∈ lw_tbl := lw_at lw_m1 195 rfl
theorem q462 : (Jvm.Cond.fieldLinkNest "ResourceLedger$Checker" (339 : Nat) "ResourceLedger$Function" "count" "I" "ResourceLedger") ∈ lw_tbl := lw_at lw_m1 198 rfl
theorem q487 : (Jvm.Cond.fieldLinkNest "ResourceLedger$Checker" (110 : Nat) "ResourceLedger$Tables" "structures" "[LResourceLedger$Structure;" "ResourceLedger") ∈ lw_tbl := lw_at lw_m1 223 rfl
theorem q494 : (Jvm.Cond.fieldLinkNest "ResourceLedger$Checker" (102 : Nat) "ResourceLedger$Tables" "types" "LResourceLedger$Types;" "ResourceLedger") ∈ lw_tbl := lw_at lw_m1 230 rfl
theorem q499 : (Jvm.Cond.fieldLinkNest "ResourceLedger$Checker" (225 : Nat) "ResourceLedger$Tables" "elements" "LResourceLedger$Span;" "ResourceLedger") ∈ lw_tbl := lw_at lw_m1 235 rfl
theorem q502 : (Jvm.Cond.fieldLinkNest "ResourceLedger$Checker" (320 : Nat) "ResourceLedger$Tables" "code" "LResourceLedger$Code;" "ResourceLedger") ∈ lw_tbl := lw_at lw_m1 238 rfl
theorem q737 : (Jvm.Cond.instantiable "ResourceLedger$Checker" (16 : Nat)) ∈ lw_all := lw_g (lw_at lw_m2 233 rfl) rfl
theorem q739 : (Jvm.Cond.instanceMethod ({ cls := "ResourceLedger$Checker", name := "<init>", desc := "()V" } : Jvm.MethodName)) ∈ lw_all := lw_g (lw_at lw_m2 235 rfl) rfl
theorem q740 : (Jvm.Cond.code ({ cls := "ResourceLedger$Checker", name := "<init>", desc := "()V" } : Jvm.MethodName) prog_2_method_1_code (1 : Nat) (Option.none : Option Jvm.ClassFile.FieldType)) ∈ lw_all := lw_g (lw_at lw_m2 236 rfl) rfl
theorem q741 : (Jvm.Cond.methodLink "ResourceLedger$Checker" (7 : Nat) ({ cls := "java/lang/Object", name := "<init>", desc := "()V" } : Jvm.MethodName)) ∈ lw_all := lw_g (lw_at lw_m2 237 rfl) rfl
theorem q742 : (Jvm.Cond.classLink "ResourceLedger$Checker" (13 : Nat) "ResourceLedger$Checker$States") ∈ lw_all := lw_g (lw_at lw_m2 238 rfl) rfl
theorem q744 : (Jvm.Cond.methodLinkNest "ResourceLedger$Checker" (15 : Nat) ({ cls := "ResourceLedger$Checker$States", name := "<init>", desc := "()V" } : Jvm.MethodName) "ResourceLedger") ∈ lw_tbl := lw_at lw_m3 0 rfl
theorem q750 : (Jvm.Cond.fieldLinkNest "ResourceLedger$Checker" (245 : Nat) "ResourceLedger$Checker$States" "came" "[Z" "ResourceLedger") ∈ lw_tbl := lw_at lw_m3 6 rfl
theorem q752 : (Jvm.Cond.fieldLinkNest "ResourceLedger$Checker" (254 : Nat) "ResourceLedger$Checker$States" "there" "[J" "ResourceLedger") ∈ lw_tbl := lw_at lw_m3 8 rfl
theorem q754 : (Jvm.Cond.fieldLinkNest "ResourceLedger$Checker" (256 : Nat) "ResourceLedger$Checker$States" "origins" "[J" "ResourceLedger") ∈ lw_tbl := lw_at lw_m3 10 rfl
theorem q763 : (Jvm.Cond.classLink "ResourceLedger$Checker" (42 : Nat) "java/lang/IllegalStateException") ∈ lw_all := lw_g (lw_at lw_m3 19 rfl) rfl
theorem q772 : (Jvm.Cond.stringRef "ResourceLedger$Checker" (44 : Nat) "wrong") ∈ lw_tbl := lw_at lw_m3 28 rfl
theorem q773 : (Jvm.Cond.methodLink "ResourceLedger$Checker" (46 : Nat) ({ cls := "java/lang/IllegalStateException", name := "<init>", desc := "(Ljava/lang/String;)V" } : Jvm.MethodName)) ∈ lw_all := lw_g (lw_at lw_m3 29 rfl) rfl
theorem q779 : (Jvm.Cond.fieldLink "ResourceLedger$Checker" (16 : Nat) "ResourceLedger$Checker" "states" "LResourceLedger$Checker$States;") ∈ lw_all := lw_g (lw_at lw_m3 35 rfl) rfl
theorem q780 : (Jvm.Cond.fieldLink "ResourceLedger$Checker" (85 : Nat) "ResourceLedger$Checker" "tables" "LResourceLedger$Tables;") ∈ lw_all := lw_g (lw_at lw_m3 36 rfl) rfl
theorem q781 : (Jvm.Cond.fieldLink "ResourceLedger$Checker" (114 : Nat) "ResourceLedger$Checker" "f" "LResourceLedger$Function;") ∈ lw_all := lw_g (lw_at lw_m3 37 rfl) rfl
theorem q783 : (Jvm.Cond.fieldLink "ResourceLedger$Checker" (239 : Nat) "ResourceLedger$Checker" "at" "I") ∈ lw_all := lw_g (lw_at lw_m3 39 rfl) rfl
theorem q784 : (Jvm.Cond.fieldLink "ResourceLedger$Checker" (22 : Nat) "ResourceLedger$Checker" "stack" "[J") ∈ lw_all := lw_g (lw_at lw_m3 40 rfl) rfl
theorem q785 : (Jvm.Cond.fieldLink "ResourceLedger$Checker" (26 : Nat) "ResourceLedger$Checker" "stackOrigins" "[J") ∈ lw_all := lw_g (lw_at lw_m3 41 rfl) rfl
theorem q786 : (Jvm.Cond.fieldLink "ResourceLedger$Checker" (131 : Nat) "ResourceLedger$Checker" "height" "I") ∈ lw_all := lw_g (lw_at lw_m3 42 rfl) rfl
theorem q787 : (Jvm.Cond.fieldLink "ResourceLedger$Checker" (172 : Nat) "ResourceLedger$Checker" "there" "J") ∈ lw_all := lw_g (lw_at lw_m3 43 rfl) rfl
theorem q788 : (Jvm.Cond.fieldLink "ResourceLedger$Checker" (29 : Nat) "ResourceLedger$Checker" "origins" "[J") ∈ lw_all := lw_g (lw_at lw_m3 44 rfl) rfl
theorem q789 : (Jvm.Cond.fieldLink "ResourceLedger$Checker" (138 : Nat) "ResourceLedger$Checker" "taken" "J") ∈ lw_all := lw_g (lw_at lw_m3 45 rfl) rfl
theorem q790 : (Jvm.Cond.fieldLink "ResourceLedger$Checker" (142 : Nat) "ResourceLedger$Checker" "takenOrigins" "J") ∈ lw_all := lw_g (lw_at lw_m3 46 rfl) rfl
theorem q791 : (Jvm.Cond.fieldLink "ResourceLedger$Checker" (32 : Nat) "ResourceLedger$Checker" "given" "[J") ∈ lw_all := lw_g (lw_at lw_m3 47 rfl) rfl
theorem q792 : (Jvm.Cond.fieldLink "ResourceLedger$Checker" (35 : Nat) "ResourceLedger$Checker" "givenOrigins" "[J") ∈ lw_all := lw_g (lw_at lw_m3 48 rfl) rfl
theorem q793 : (Jvm.Cond.fieldLink "ResourceLedger$Checker" (38 : Nat) "ResourceLedger$Checker" "leads" "[Z") ∈ lw_all := lw_g (lw_at lw_m3 49 rfl) rfl
theorem q794 : (Jvm.Cond.fieldLink "ResourceLedger$Checker" (49 : Nat) "ResourceLedger$Checker" "wrong" "Ljava/lang/IllegalStateException;") ∈ lw_all := lw_g (lw_at lw_m3 50 rfl) rfl
theorem q795 : (Jvm.Cond.fieldLink "ResourceLedger$Checker" (124 : Nat) "ResourceLedger$Checker" "why" "I") ∈ lw_all := lw_g (lw_at lw_m3 51 rfl) rfl
theorem q796 : (Jvm.Cond.laysFinal "ResourceLedger$Checker" "ResourceLedger$Checker" "states" "LResourceLedger$Checker$States;") ∈ lw_all := lw_g (lw_at lw_m3 52 rfl) rfl
theorem q797 : (Jvm.Cond.soleField "ResourceLedger$Checker" "states") ∈ lw_all := lw_g (lw_at lw_m3 53 rfl) rfl
theorem q798 : (Jvm.Cond.lays "ResourceLedger$Checker" "ResourceLedger$Checker" "tables" "LResourceLedger$Tables;") ∈ lw_all := lw_g (lw_at lw_m3 54 rfl) rfl
theorem q799 : (Jvm.Cond.soleField "ResourceLedger$Checker" "tables") ∈ lw_all := lw_g (lw_at lw_m3 55 rfl) rfl
theorem q800 : (Jvm.Cond.lays "ResourceLedger$Checker" "ResourceLedger$Checker" "f" "LResourceLedger$Function;") ∈ lw_all := lw_g (lw_at lw_m3 56 rfl) rfl
theorem q801 : (Jvm.Cond.soleField "ResourceLedger$Checker" "f") ∈ lw_all := lw_g (lw_at lw_m3 57 rfl) rfl
theorem q802 : (Jvm.Cond.lays "ResourceLedger$Checker" "ResourceLedger$Checker" "at" "I") ∈ lw_all := lw_g (lw_at lw_m3 58 rfl) rfl
theorem q803 : (Jvm.Cond.soleField "ResourceLedger$Checker" "at") ∈ lw_all := lw_g (lw_at lw_m3 59 rfl) rfl
theorem q804 : (Jvm.Cond.laysFinal "ResourceLedger$Checker" "ResourceLedger$Checker" "stack" "[J") ∈ lw_all := lw_g (lw_at lw_m3 60 rfl) rfl
theorem q805 : (Jvm.Cond.soleField "ResourceLedger$Checker" "stack") ∈ lw_all := lw_g (lw_at lw_m3 61 rfl) rfl
theorem q806 : (Jvm.Cond.laysFinal "ResourceLedger$Checker" "ResourceLedger$Checker" "stackOrigins" "[J") ∈ lw_all := lw_g (lw_at lw_m3 62 rfl) rfl
theorem q807 : (Jvm.Cond.soleField "ResourceLedger$Checker" "stackOrigins") ∈ lw_all := lw_g (lw_at lw_m3 63 rfl) rfl
theorem q808 : (Jvm.Cond.lays "ResourceLedger$Checker" "ResourceLedger$Checker" "height" "I") ∈ lw_all := lw_g (lw_at lw_m3 64 rfl) rfl
theorem q809 : (Jvm.Cond.soleField "ResourceLedger$Checker" "height") ∈ lw_all := lw_g (lw_at lw_m3 65 rfl) rfl
theorem q810 : (Jvm.Cond.lays "ResourceLedger$Checker" "ResourceLedger$Checker" "there" "J") ∈ lw_all := lw_g (lw_at lw_m3 66 rfl) rfl
theorem q811 : (Jvm.Cond.soleField "ResourceLedger$Checker" "there") ∈ lw_all := lw_g (lw_at lw_m3 67 rfl) rfl
theorem q812 : (Jvm.Cond.laysFinal "ResourceLedger$Checker" "ResourceLedger$Checker" "origins" "[J") ∈ lw_all := lw_g (lw_at lw_m3 68 rfl) rfl
theorem q813 : (Jvm.Cond.soleField "ResourceLedger$Checker" "origins") ∈ lw_all := lw_g (lw_at lw_m3 69 rfl) rfl
theorem q814 : (Jvm.Cond.lays "ResourceLedger$Checker" "ResourceLedger$Checker" "taken" "J") ∈ lw_all := lw_g (lw_at lw_m3 70 rfl) rfl
theorem q815 : (Jvm.Cond.soleField "ResourceLedger$Checker" "taken") ∈ lw_all := lw_g (lw_at lw_m3 71 rfl) rfl
theorem q816 : (Jvm.Cond.lays "ResourceLedger$Checker" "ResourceLedger$Checker" "takenOrigins" "J") ∈ lw_all := lw_g (lw_at lw_m3 72 rfl) rfl
theorem q817 : (Jvm.Cond.soleField "ResourceLedger$Checker" "takenOrigins") ∈ lw_all := lw_g (lw_at lw_m3 73 rfl) rfl
theorem q818 : (Jvm.Cond.laysFinal "ResourceLedger$Checker" "ResourceLedger$Checker" "given" "[J") ∈ lw_all := lw_g (lw_at lw_m3 74 rfl) rfl
theorem q819 : (Jvm.Cond.soleField "ResourceLedger$Checker" "given") ∈ lw_all := lw_g (lw_at lw_m3 75 rfl) rfl
theorem q820 : (Jvm.Cond.laysFinal "ResourceLedger$Checker" "ResourceLedger$Checker" "givenOrigins" "[J") ∈ lw_all := lw_g (lw_at lw_m3 76 rfl) rfl
theorem q821 : (Jvm.Cond.soleField "ResourceLedger$Checker" "givenOrigins") ∈ lw_all := lw_g (lw_at lw_m3 77 rfl) rfl
theorem q822 : (Jvm.Cond.laysFinal "ResourceLedger$Checker" "ResourceLedger$Checker" "leads" "[Z") ∈ lw_all := lw_g (lw_at lw_m3 78 rfl) rfl
theorem q823 : (Jvm.Cond.soleField "ResourceLedger$Checker" "leads") ∈ lw_all := lw_g (lw_at lw_m3 79 rfl) rfl
theorem q824 : (Jvm.Cond.laysFinal "ResourceLedger$Checker" "ResourceLedger$Checker" "wrong" "Ljava/lang/IllegalStateException;") ∈ lw_all := lw_g (lw_at lw_m3 80 rfl) rfl
theorem q825 : (Jvm.Cond.soleField "ResourceLedger$Checker" "wrong") ∈ lw_all := lw_g (lw_at lw_m3 81 rfl) rfl
theorem q826 : (Jvm.Cond.lays "ResourceLedger$Checker" "ResourceLedger$Checker" "why" "I") ∈ lw_all := lw_g (lw_at lw_m3 82 rfl) rfl
theorem q827 : (Jvm.Cond.soleField "ResourceLedger$Checker" "why") ∈ lw_all := lw_g (lw_at lw_m3 83 rfl) rfl
theorem q828 : (Jvm.Cond.superclass "ResourceLedger$Checker" "java/lang/Object") ∈ lw_all := lw_g (lw_at lw_m3 84 rfl) rfl
theorem q1837 : (Jvm.Cond.instanceMethod ({ cls := "ResourceLedger$Checker", name := "doesBear", desc := "(LResourceLedger$Tables;LResourceLedger$Structure;)Z" } : Jvm.MethodName)) ∈ lw_all := lw_g (lw_at lw_m7 133 rfl) rfl
theorem q1838 : (Jvm.Cond.selects "ResourceLedger$Checker" ({ cls := "ResourceLedger$Checker", name := "doesBear", desc := "(LResourceLedger$Tables;LResourceLedger$Structure;)Z" } : Jvm.MethodName) ({ cls := "ResourceLedger$Checker", name := "doesBear", desc := "(LResourceLedger$Tables;LResourceLedger$Structure;)Z" } : Jvm.MethodName)) ∈ lw_all := lw_g (lw_at lw_m7 134 rfl) rfl
theorem q1839 : (Jvm.Cond.code ({ cls := "ResourceLedger$Checker", name := "doesBear", desc := "(LResourceLedger$Tables;LResourceLedger$Structure;)Z" } : Jvm.MethodName) prog_2_method_5_code (6 : Nat) (Option.some Jvm.ClassFile.FieldType.boolean)) ∈ lw_all := lw_g (lw_at lw_m7 135 rfl) rfl
theorem q1840 : (Jvm.Cond.methodLink "ResourceLedger$Checker" (106 : Nat) ({ cls := "ResourceLedger$Span", name := "get", desc := "(LResourceLedger$Types;I)J" } : Jvm.MethodName)) ∈ lw_all := lw_g (lw_at lw_m7 136 rfl) rfl
theorem q1841 : (Jvm.Cond.methodLink "ResourceLedger$Checker" (89 : Nat) ({ cls := "ResourceLedger$Checker", name := "abilitiesOf", desc := "(LResourceLedger$Tables;J)I" } : Jvm.MethodName)) ∈ lw_all := lw_g (lw_at lw_m7 137 rfl) rfl
theorem q1842 : (Jvm.Cond.instanceMethod ({ cls := "ResourceLedger$Checker", name := "abilitiesOf", desc := "(LResourceLedger$Tables;J)I" } : Jvm.MethodName)) ∈ lw_all := lw_g (lw_at lw_m7 138 rfl) rfl
theorem q1843 : (Jvm.Cond.selects "ResourceLedger$Checker" ({ cls := "ResourceLedger$Checker", name := "abilitiesOf", desc := "(LResourceLedger$Tables;J)I" } : Jvm.MethodName) ({ cls := "ResourceLedger$Checker", name := "abilitiesOf", desc := "(LResourceLedger$Tables;J)I" } : Jvm.MethodName)) ∈ lw_all := lw_g (lw_at lw_m7 139 rfl) rfl
theorem q1844 : (Jvm.Cond.code ({ cls := "ResourceLedger$Checker", name := "abilitiesOf", desc := "(LResourceLedger$Tables;J)I" } : Jvm.MethodName) prog_2_method_3_code (7 : Nat) (Option.some Jvm.ClassFile.FieldType.int)) ∈ lw_all := lw_g (lw_at lw_m7 140 rfl) rfl
theorem q1845 : (Jvm.Cond.methodLink "ResourceLedger$Checker" (58 : Nat) ({ cls := "ResourceLedger$Type", name := "head", desc := "(J)I" } : Jvm.MethodName)) ∈ lw_all := lw_g (lw_at lw_m7 141 rfl) rfl
theorem q1858 : (Jvm.Cond.methodLink "ResourceLedger$Checker" (62 : Nat) ({ cls := "ResourceLedger$Type", name := "rest", desc := "(J)J" } : Jvm.MethodName)) ∈ lw_all := lw_g (lw_at lw_m7 154 rfl) rfl
theorem q1861 : (Jvm.Cond.methodLink "ResourceLedger$Checker" (66 : Nat) ({ cls := "ResourceLedger$Type", name := "isReference", desc := "(J)Z" } : Jvm.MethodName)) ∈ lw_all := lw_g (lw_at lw_m7 157 rfl) rfl
theorem q1865 : (Jvm.Cond.constantLong "ResourceLedger$Checker" (70 : Nat) (5 : Int64)) ∈ lw_all := lw_g (lw_at lw_m7 161 rfl) rfl
theorem q1866 : (Jvm.Cond.constantLong "ResourceLedger$Checker" (72 : Nat) (255 : Int64)) ∈ lw_all := lw_g (lw_at lw_m7 162 rfl) rfl
theorem q1867 : (Jvm.Cond.methodLink "ResourceLedger$Checker" (74 : Nat) ({ cls := "ResourceLedger$Tables", name := "structureAt", desc := "(I)LResourceLedger$Structure;" } : Jvm.MethodName)) ∈ lw_all := lw_g (lw_at lw_m7 163 rfl) rfl
theorem q1874 : (Jvm.Cond.instanceMethod ({ cls := "ResourceLedger$Checker", name := "check", desc := "(LResourceLedger$Tables;LResourceLedger$Function;)I" } : Jvm.MethodName)) ∈ lw_all := lw_g (lw_at lw_m7 170 rfl) rfl
theorem q1875 : (Jvm.Cond.selects "ResourceLedger$Checker" ({ cls := "ResourceLedger$Checker", name := "check", desc := "(LResourceLedger$Tables;LResourceLedger$Function;)I" } : Jvm.MethodName) ({ cls := "ResourceLedger$Checker", name := "check", desc := "(LResourceLedger$Tables;LResourceLedger$Function;)I" } : Jvm.MethodName)) ∈ lw_all := lw_g (lw_at lw_m7 171 rfl) rfl
theorem q1876 : (Jvm.Cond.codeWith ({ cls := "ResourceLedger$Checker", name := "check", desc := "(LResourceLedger$Tables;LResourceLedger$Function;)I" } : Jvm.MethodName) prog_2_method_42_code (4 : Nat) (Option.some Jvm.ClassFile.FieldType.int) [((14 : Nat), (18 : Nat), (21 : Nat), (42 : Nat))]) ∈ lw_all := lw_g (lw_at lw_m7 172 rfl) rfl
theorem q1877 : (Jvm.Cond.methodLink "ResourceLedger$Checker" (344 : Nat) ({ cls := "ResourceLedger$Checker", name := "begin", desc := "()V" } : Jvm.MethodName)) ∈ lw_all := lw_g (lw_at lw_m7 173 rfl) rfl
theorem q1878 : (Jvm.Cond.privateMethod ({ cls := "ResourceLedger$Checker", name := "begin", desc := "()V" } : Jvm.MethodName)) ∈ lw_tbl := lw_at lw_m7 174 rfl
theorem q1879 : (Jvm.Cond.instanceMethod ({ cls := "ResourceLedger$Checker", name := "begin", desc := "()V" } : Jvm.MethodName)) ∈ lw_all := lw_g (lw_at lw_m7 175 rfl) rfl
theorem q1880 : (Jvm.Cond.code ({ cls := "ResourceLedger$Checker", name := "begin", desc := "()V" } : Jvm.MethodName) prog_2_method_40_code (3 : Nat) (Option.none : Option Jvm.ClassFile.FieldType)) ∈ lw_all := lw_g (lw_at lw_m7 176 rfl) rfl
theorem q1881 : (Jvm.Cond.methodLink "ResourceLedger$Checker" (164 : Nat) ({ cls := "ResourceLedger$Function", name := "localCount", desc := "()I" } : Jvm.MethodName)) ∈ lw_all := lw_g (lw_at lw_m7 177 rfl) rfl
theorem q1882 : (Jvm.Cond.methodLink "ResourceLedger$Checker" (168 : Nat) ({ cls := "ResourceLedger$Checker", name := "localType", desc := "(I)J" } : Jvm.MethodName)) ∈ lw_all := lw_g (lw_at lw_m7 178 rfl) rfl
theorem q1883 : (Jvm.Cond.privateMethod ({ cls := "ResourceLedger$Checker", name := "localType", desc := "(I)J" } : Jvm.MethodName)) ∈ lw_tbl := lw_at lw_m7 179 rfl
theorem q1884 : (Jvm.Cond.instanceMethod ({ cls := "ResourceLedger$Checker", name := "localType", desc := "(I)J" } : Jvm.MethodName)) ∈ lw_all := lw_g (lw_at lw_m7 180 rfl) rfl
theorem q1885 : (Jvm.Cond.code ({ cls := "ResourceLedger$Checker", name := "localType", desc := "(I)J" } : Jvm.MethodName) prog_2_method_7_code (2 : Nat) (Option.some Jvm.ClassFile.FieldType.long)) ∈ lw_all := lw_g (lw_at lw_m7 181 rfl) rfl
theorem q1886 : (Jvm.Cond.methodLink "ResourceLedger$Checker" (251 : Nat) ({ cls := "ResourceLedger$Checker", name := "first", desc := "(I)V" } : Jvm.MethodName)) ∈ lw_all := lw_g (lw_at lw_m7 182 rfl) rfl
theorem q1887 : (Jvm.Cond.privateMethod ({ cls := "ResourceLedger$Checker", name := "first", desc := "(I)V" } : Jvm.MethodName)) ∈ lw_tbl := lw_at lw_m7 183 rfl
theorem q1888 : (Jvm.Cond.instanceMethod ({ cls := "ResourceLedger$Checker", name := "first", desc := "(I)V" } : Jvm.MethodName)) ∈ lw_all := lw_g (lw_at lw_m7 184 rfl) rfl
theorem q1889 : (Jvm.Cond.code ({ cls := "ResourceLedger$Checker", name := "first", desc := "(I)V" } : Jvm.MethodName) prog_2_method_33_code (3 : Nat) (Option.none : Option Jvm.ClassFile.FieldType)) ∈ lw_all := lw_g (lw_at lw_m7 185 rfl) rfl
theorem q1890 : (Jvm.Cond.methodLink "ResourceLedger$Checker" (347 : Nat) ({ cls := "ResourceLedger$Checker", name := "all", desc := "()V" } : Jvm.MethodName)) ∈ lw_all := lw_g (lw_at lw_m7 186 rfl) rfl
theorem q1891 : (Jvm.Cond.privateMethod ({ cls := "ResourceLedger$Checker", name := "all", desc := "()V" } : Jvm.MethodName)) ∈ lw_tbl := lw_at lw_m7 187 rfl
theorem q1892 : (Jvm.Cond.instanceMethod ({ cls := "ResourceLedger$Checker", name := "all", desc := "()V" } : Jvm.MethodName)) ∈ lw_all := lw_g (lw_at lw_m7 188 rfl) rfl
theorem q1893 : (Jvm.Cond.code ({ cls := "ResourceLedger$Checker", name := "all", desc := "()V" } : Jvm.MethodName) prog_2_method_41_code (3 : Nat) (Option.none : Option Jvm.ClassFile.FieldType)) ∈ lw_all := lw_g (lw_at lw_m7 189 rfl) rfl
theorem q1894 : (Jvm.Cond.methodLink "ResourceLedger$Checker" (340 : Nat) ({ cls := "ResourceLedger$Checker", name := "one", desc := "(Z)V" } : Jvm.MethodName)) ∈ lw_all := lw_g (lw_at lw_m7 190 rfl) rfl
theorem q1895 : (Jvm.Cond.privateMethod ({ cls := "ResourceLedger$Checker", name := "one", desc := "(Z)V" } : Jvm.MethodName)) ∈ lw_tbl := lw_at lw_m7 191 rfl
theorem q1896 : (Jvm.Cond.instanceMethod ({ cls := "ResourceLedger$Checker", name := "one", desc := "(Z)V" } : Jvm.MethodName)) ∈ lw_all := lw_g (lw_at lw_m7 192 rfl) rfl
theorem q1897 : (Jvm.Cond.code ({ cls := "ResourceLedger$Checker", name := "one", desc := "(Z)V" } : Jvm.MethodName) prog_2_method_39_code (3 : Nat) (Option.none : Option Jvm.ClassFile.FieldType)) ∈ lw_all := lw_g (lw_at lw_m7 193 rfl) rfl
theorem q1898 : (Jvm.Cond.methodLink "ResourceLedger$Checker" (134 : Nat) ({ cls := "ResourceLedger$Checker", name := "need", desc := "(ZI)V" } : Jvm.MethodName)) ∈ lw_all := lw_g (lw_at lw_m7 194 rfl) rfl
theorem q1899 : (Jvm.Cond.privateMethod ({ cls := "ResourceLedger$Checker", name := "need", desc := "(ZI)V" } : Jvm.MethodName)) ∈ lw_tbl := lw_at lw_m7 195 rfl
theorem q1900 : (Jvm.Cond.instanceMethod ({ cls := "ResourceLedger$Checker", name := "need", desc := "(ZI)V" } : Jvm.MethodName)) ∈ lw_all := lw_g (lw_at lw_m7 196 rfl) rfl
theorem q1901 : (Jvm.Cond.code ({ cls := "ResourceLedger$Checker", name := "need", desc := "(ZI)V" } : Jvm.MethodName) prog_2_method_9_code (3 : Nat) (Option.none : Option Jvm.ClassFile.FieldType)) ∈ lw_all := lw_g (lw_at lw_m7 197 rfl) rfl
theorem q1902 : (Jvm.Cond.methodLink "ResourceLedger$Checker" (127 : Nat) ({ cls := "ResourceLedger$Checker", name := "fail", desc := "(I)V" } : Jvm.MethodName)) ∈ lw_all := lw_g (lw_at lw_m7 198 rfl) rfl
theorem q1903 : (Jvm.Cond.privateMethod ({ cls := "ResourceLedger$Checker", name := "fail", desc := "(I)V" } : Jvm.MethodName)) ∈ lw_tbl := lw_at lw_m7 199 rfl
theorem q1904 : (Jvm.Cond.instanceMethod ({ cls := "ResourceLedger$Checker", name := "fail", desc := "(I)V" } : Jvm.MethodName)) ∈ lw_all := lw_g (lw_at lw_m7 200 rfl) rfl
theorem q1905 : (Jvm.Cond.code ({ cls := "ResourceLedger$Checker", name := "fail", desc := "(I)V" } : Jvm.MethodName) prog_2_method_8_code (2 : Nat) (Option.none : Option Jvm.ClassFile.FieldType)) ∈ lw_all := lw_g (lw_at lw_m7 201 rfl) rfl
theorem q1906 : (Jvm.Cond.methodLink "ResourceLedger$Checker" (263 : Nat) ({ cls := "ResourceLedger$Checker$States", name := "get", desc := "(II)J" } : Jvm.MethodName)) ∈ lw_all := lw_g (lw_at lw_m7 202 rfl) rfl
theorem q1910 : (Jvm.Cond.methodLink "ResourceLedger$Checker" (336 : Nat) ({ cls := "ResourceLedger$Checker", name := "doOne", desc := "(III)V" } : Jvm.MethodName)) ∈ lw_all := lw_g (lw_at lw_m7 206 rfl) rfl
theorem q1911 : (Jvm.Cond.privateMethod ({ cls := "ResourceLedger$Checker", name := "doOne", desc := "(III)V" } : Jvm.MethodName)) ∈ lw_tbl := lw_at lw_m7 207 rfl
theorem q1912 : (Jvm.Cond.instanceMethod ({ cls := "ResourceLedger$Checker", name := "doOne", desc := "(III)V" } : Jvm.MethodName)) ∈ lw_all := lw_g (lw_at lw_m7 208 rfl) rfl
theorem q1913 : (Jvm.Cond.code ({ cls := "ResourceLedger$Checker", name := "doOne", desc := "(III)V" } : Jvm.MethodName) prog_2_method_37_code (4 : Nat) (Option.none : Option Jvm.ClassFile.FieldType)) ∈ lw_all := lw_g (lw_at lw_m7 209 rfl) rfl
theorem q1914 : (Jvm.Cond.methodLink "ResourceLedger$Checker" (145 : Nat) ({ cls := "ResourceLedger$Checker", name := "take", desc := "()V" } : Jvm.MethodName)) ∈ lw_all := lw_g (lw_at lw_m7 210 rfl) rfl
theorem q1915 : (Jvm.Cond.privateMethod ({ cls := "ResourceLedger$Checker", name := "take", desc := "()V" } : Jvm.MethodName)) ∈ lw_tbl := lw_at lw_m7 211 rfl
theorem q1916 : (Jvm.Cond.instanceMethod ({ cls := "ResourceLedger$Checker", name := "take", desc := "()V" } : Jvm.MethodName)) ∈ lw_all := lw_g (lw_at lw_m7 212 rfl) rfl
theorem q1917 : (Jvm.Cond.code ({ cls := "ResourceLedger$Checker", name := "take", desc := "()V" } : Jvm.MethodName) prog_2_method_10_code (1 : Nat) (Option.none : Option Jvm.ClassFile.FieldType)) ∈ lw_all := lw_g (lw_at lw_m7 213 rfl) rfl
theorem q1918 : (Jvm.Cond.methodLink "ResourceLedger$Checker" (186 : Nat) ({ cls := "ResourceLedger$Checker", name := "needAbility", desc := "(JI)V" } : Jvm.MethodName)) ∈ lw_all := lw_g (lw_at lw_m7 214 rfl) rfl
theorem q1919 : (Jvm.Cond.privateMethod ({ cls := "ResourceLedger$Checker", name := "needAbility", desc := "(JI)V" } : Jvm.MethodName)) ∈ lw_tbl := lw_at lw_m7 215 rfl
theorem q1920 : (Jvm.Cond.instanceMethod ({ cls := "ResourceLedger$Checker", name := "needAbility", desc := "(JI)V" } : Jvm.MethodName)) ∈ lw_all := lw_g (lw_at lw_m7 216 rfl) rfl
theorem q1921 : (Jvm.Cond.code ({ cls := "ResourceLedger$Checker", name := "needAbility", desc := "(JI)V" } : Jvm.MethodName) prog_2_method_15_code (4 : Nat) (Option.none : Option Jvm.ClassFile.FieldType)) ∈ lw_all := lw_g (lw_at lw_m7 217 rfl) rfl
theorem q1922 : (Jvm.Cond.methodLink "ResourceLedger$Checker" (154 : Nat) ({ cls := "ResourceLedger$Checker", name := "has", desc := "(JI)Z" } : Jvm.MethodName)) ∈ lw_all := lw_g (lw_at lw_m7 218 rfl) rfl
theorem q1923 : (Jvm.Cond.privateMethod ({ cls := "ResourceLedger$Checker", name := "has", desc := "(JI)Z" } : Jvm.MethodName)) ∈ lw_tbl := lw_at lw_m7 219 rfl
theorem q1924 : (Jvm.Cond.instanceMethod ({ cls := "ResourceLedger$Checker", name := "has", desc := "(JI)Z" } : Jvm.MethodName)) ∈ lw_all := lw_g (lw_at lw_m7 220 rfl) rfl
theorem q1925 : (Jvm.Cond.code ({ cls := "ResourceLedger$Checker", name := "has", desc := "(JI)Z" } : Jvm.MethodName) prog_2_method_4_code (4 : Nat) (Option.some Jvm.ClassFile.FieldType.boolean)) ∈ lw_all := lw_g (lw_at lw_m7 221 rfl) rfl
theorem q1926 : (Jvm.Cond.methodLink "ResourceLedger$Checker" (268 : Nat) ({ cls := "ResourceLedger$Checker", name := "end", desc := "()V" } : Jvm.MethodName)) ∈ lw_all := lw_g (lw_at lw_m7 222 rfl) rfl
theorem q1927 : (Jvm.Cond.privateMethod ({ cls := "ResourceLedger$Checker", name := "end", desc := "()V" } : Jvm.MethodName)) ∈ lw_tbl := lw_at lw_m7 223 rfl
theorem q1928 : (Jvm.Cond.instanceMethod ({ cls := "ResourceLedger$Checker", name := "end", desc := "()V" } : Jvm.MethodName)) ∈ lw_all := lw_g (lw_at lw_m7 224 rfl) rfl
theorem q1929 : (Jvm.Cond.code ({ cls := "ResourceLedger$Checker", name := "end", desc := "()V" } : Jvm.MethodName) prog_2_method_30_code (2 : Nat) (Option.none : Option Jvm.ClassFile.FieldType)) ∈ lw_all := lw_g (lw_at lw_m7 225 rfl) rfl
theorem q1930 : (Jvm.Cond.constantLong "ResourceLedger$Checker" (237 : Nat) (9223091661389692927 : Int64)) ∈ lw_all := lw_g (lw_at lw_m7 226 rfl) rfl
theorem q1931 : (Jvm.Cond.methodLink "ResourceLedger$Checker" (182 : Nat) ({ cls := "ResourceLedger$Checker", name := "isThere", desc := "(I)Z" } : Jvm.MethodName)) ∈ lw_all := lw_g (lw_at lw_m7 227 rfl) rfl
theorem q1932 : (Jvm.Cond.privateMethod ({ cls := "ResourceLedger$Checker", name := "isThere", desc := "(I)Z" } : Jvm.MethodName)) ∈ lw_tbl := lw_at lw_m7 228 rfl
theorem q1933 : (Jvm.Cond.instanceMethod ({ cls := "ResourceLedger$Checker", name := "isThere", desc := "(I)Z" } : Jvm.MethodName)) ∈ lw_all := lw_g (lw_at lw_m7 229 rfl) rfl
theorem q1934 : (Jvm.Cond.code ({ cls := "ResourceLedger$Checker", name := "isThere", desc := "(I)Z" } : Jvm.MethodName) prog_2_method_19_code (2 : Nat) (Option.some Jvm.ClassFile.FieldType.boolean)) ∈ lw_all := lw_g (lw_at lw_m7 230 rfl) rfl
theorem q1935 : (Jvm.Cond.methodLink "ResourceLedger$Checker" (271 : Nat) ({ cls := "ResourceLedger$Checker", name := "branch", desc := "(II)V" } : Jvm.MethodName)) ∈ lw_all := lw_g (lw_at lw_m7 231 rfl) rfl
theorem q1936 : (Jvm.Cond.privateMethod ({ cls := "ResourceLedger$Checker", name := "branch", desc := "(II)V" } : Jvm.MethodName)) ∈ lw_tbl := lw_at lw_m7 232 rfl
theorem q1937 : (Jvm.Cond.instanceMethod ({ cls := "ResourceLedger$Checker", name := "branch", desc := "(II)V" } : Jvm.MethodName)) ∈ lw_all := lw_g (lw_at lw_m7 233 rfl) rfl
theorem q1938 : (Jvm.Cond.code ({ cls := "ResourceLedger$Checker", name := "branch", desc := "(II)V" } : Jvm.MethodName) prog_2_method_36_code (3 : Nat) (Option.none : Option Jvm.ClassFile.FieldType)) ∈ lw_all := lw_g (lw_at lw_m7 234 rfl) rfl
theorem q1939 : (Jvm.Cond.methodLink "ResourceLedger$Checker" (178 : Nat) ({ cls := "ResourceLedger$Checker", name := "takeType", desc := "(J)V" } : Jvm.MethodName)) ∈ lw_all := lw_g (lw_at lw_m7 235 rfl) rfl
theorem q1940 : (Jvm.Cond.privateMethod ({ cls := "ResourceLedger$Checker", name := "takeType", desc := "(J)V" } : Jvm.MethodName)) ∈ lw_tbl := lw_at lw_m7 236 rfl
theorem q1941 : (Jvm.Cond.instanceMethod ({ cls := "ResourceLedger$Checker", name := "takeType", desc := "(J)V" } : Jvm.MethodName)) ∈ lw_all := lw_g (lw_at lw_m7 237 rfl) rfl
theorem q1942 : (Jvm.Cond.code ({ cls := "ResourceLedger$Checker", name := "takeType", desc := "(J)V" } : Jvm.MethodName) prog_2_method_11_code (3 : Nat) (Option.none : Option Jvm.ClassFile.FieldType)) ∈ lw_all := lw_g (lw_at lw_m7 238 rfl) rfl
theorem q1943 : (Jvm.Cond.methodLink "ResourceLedger$Checker" (265 : Nat) ({ cls := "ResourceLedger$Checker", name := "come", desc := "(I)V" } : Jvm.MethodName)) ∈ lw_all := lw_g (lw_at lw_m7 239 rfl) rfl
theorem q1944 : (Jvm.Cond.privateMethod ({ cls := "ResourceLedger$Checker", name := "come", desc := "(I)V" } : Jvm.MethodName)) ∈ lw_tbl := lw_at lw_m8 0 rfl
theorem q1945 : (Jvm.Cond.instanceMethod ({ cls := "ResourceLedger$Checker", name := "come", desc := "(I)V" } : Jvm.MethodName)) ∈ lw_all := lw_g (lw_at lw_m8 1 rfl) rfl
theorem q1946 : (Jvm.Cond.code ({ cls := "ResourceLedger$Checker", name := "come", desc := "(I)V" } : Jvm.MethodName) prog_2_method_32_code (2 : Nat) (Option.none : Option Jvm.ClassFile.FieldType)) ∈ lw_all := lw_g (lw_at lw_m8 2 rfl) rfl
theorem q1947 : (Jvm.Cond.methodLink "ResourceLedger$Checker" (242 : Nat) ({ cls := "ResourceLedger$Checker", name := "back", desc := "(I)V" } : Jvm.MethodName)) ∈ lw_all := lw_g (lw_at lw_m8 3 rfl) rfl
theorem q1948 : (Jvm.Cond.privateMethod ({ cls := "ResourceLedger$Checker", name := "back", desc := "(I)V" } : Jvm.MethodName)) ∈ lw_tbl := lw_at lw_m8 4 rfl
theorem q1949 : (Jvm.Cond.instanceMethod ({ cls := "ResourceLedger$Checker", name := "back", desc := "(I)V" } : Jvm.MethodName)) ∈ lw_all := lw_g (lw_at lw_m8 5 rfl) rfl
theorem q1950 : (Jvm.Cond.code ({ cls := "ResourceLedger$Checker", name := "back", desc := "(I)V" } : Jvm.MethodName) prog_2_method_35_code (3 : Nat) (Option.none : Option Jvm.ClassFile.FieldType)) ∈ lw_all := lw_g (lw_at lw_m8 6 rfl) rfl
theorem q1951 : (Jvm.Cond.methodLink "ResourceLedger$Checker" (257 : Nat) ({ cls := "ResourceLedger$Checker$States", name := "isThere", desc := "(II)Z" } : Jvm.MethodName)) ∈ lw_all := lw_g (lw_at lw_m8 7 rfl) rfl
theorem q1955 : (Jvm.Cond.methodLink "ResourceLedger$Checker" (260 : Nat) ({ cls := "ResourceLedger$Checker", name := "isDropped", desc := "(I)Z" } : Jvm.MethodName)) ∈ lw_all := lw_g (lw_at lw_m8 11 rfl) rfl
theorem q1956 : (Jvm.Cond.privateMethod ({ cls := "ResourceLedger$Checker", name := "isDropped", desc := "(I)Z" } : Jvm.MethodName)) ∈ lw_tbl := lw_at lw_m8 12 rfl
theorem q1957 : (Jvm.Cond.instanceMethod ({ cls := "ResourceLedger$Checker", name := "isDropped", desc := "(I)Z" } : Jvm.MethodName)) ∈ lw_all := lw_g (lw_at lw_m8 13 rfl) rfl
theorem q1958 : (Jvm.Cond.code ({ cls := "ResourceLedger$Checker", name := "isDropped", desc := "(I)Z" } : Jvm.MethodName) prog_2_method_31_code (2 : Nat) (Option.some Jvm.ClassFile.FieldType.boolean)) ∈ lw_all := lw_g (lw_at lw_m8 14 rfl) rfl
theorem q1959 : (Jvm.Cond.constantLong "ResourceLedger$Checker" (194 : Nat) (-1 : Int64)) ∈ lw_all := lw_g (lw_at lw_m8 15 rfl) rfl
theorem q1960 : (Jvm.Cond.methodLink "ResourceLedger$Checker" (248 : Nat) ({ cls := "ResourceLedger$Checker", name := "join", desc := "(I)V" } : Jvm.MethodName)) ∈ lw_all := lw_g (lw_at lw_m8 16 rfl) rfl
theorem q1961 : (Jvm.Cond.privateMethod ({ cls := "ResourceLedger$Checker", name := "join", desc := "(I)V" } : Jvm.MethodName)) ∈ lw_tbl := lw_at lw_m8 17 rfl
theorem q1962 : (Jvm.Cond.instanceMethod ({ cls := "ResourceLedger$Checker", name := "join", desc := "(I)V" } : Jvm.MethodName)) ∈ lw_all := lw_g (lw_at lw_m8 18 rfl) rfl
theorem q1963 : (Jvm.Cond.code ({ cls := "ResourceLedger$Checker", name := "join", desc := "(I)V" } : Jvm.MethodName) prog_2_method_34_code (3 : Nat) (Option.none : Option Jvm.ClassFile.FieldType)) ∈ lw_all := lw_g (lw_at lw_m8 19 rfl) rfl
theorem q1964 : (Jvm.Cond.methodLink "ResourceLedger$Checker" (275 : Nat) ({ cls := "ResourceLedger$Checker", name := "constant", desc := "(I)V" } : Jvm.MethodName)) ∈ lw_all := lw_g (lw_at lw_m8 20 rfl) rfl
theorem q1965 : (Jvm.Cond.privateMethod ({ cls := "ResourceLedger$Checker", name := "constant", desc := "(I)V" } : Jvm.MethodName)) ∈ lw_tbl := lw_at lw_m8 21 rfl
theorem q1966 : (Jvm.Cond.instanceMethod ({ cls := "ResourceLedger$Checker", name := "constant", desc := "(I)V" } : Jvm.MethodName)) ∈ lw_all := lw_g (lw_at lw_m8 22 rfl) rfl
theorem q1967 : (Jvm.Cond.code ({ cls := "ResourceLedger$Checker", name := "constant", desc := "(I)V" } : Jvm.MethodName) prog_2_method_29_code (2 : Nat) (Option.none : Option Jvm.ClassFile.FieldType)) ∈ lw_all := lw_g (lw_at lw_m8 23 rfl) rfl
theorem q1968 : (Jvm.Cond.constantLong "ResourceLedger$Checker" (230 : Nat) (2 : Int64)) ∈ lw_all := lw_g (lw_at lw_m8 24 rfl) rfl
theorem q1969 : (Jvm.Cond.constantLong "ResourceLedger$Checker" (228 : Nat) (3 : Int64)) ∈ lw_all := lw_g (lw_at lw_m8 25 rfl) rfl
theorem q1970 : (Jvm.Cond.constantLong "ResourceLedger$Checker" (235 : Nat) (4 : Int64)) ∈ lw_all := lw_g (lw_at lw_m8 26 rfl) rfl
theorem q1971 : (Jvm.Cond.methodLink "ResourceLedger$Checker" (190 : Nat) ({ cls := "ResourceLedger$Checker", name := "put", desc := "(JJ)V" } : Jvm.MethodName)) ∈ lw_all := lw_g (lw_at lw_m8 27 rfl) rfl
theorem q1972 : (Jvm.Cond.privateMethod ({ cls := "ResourceLedger$Checker", name := "put", desc := "(JJ)V" } : Jvm.MethodName)) ∈ lw_tbl := lw_at lw_m8 28 rfl
theorem q1973 : (Jvm.Cond.instanceMethod ({ cls := "ResourceLedger$Checker", name := "put", desc := "(JJ)V" } : Jvm.MethodName)) ∈ lw_all := lw_g (lw_at lw_m8 29 rfl) rfl
theorem q1974 : (Jvm.Cond.code ({ cls := "ResourceLedger$Checker", name := "put", desc := "(JJ)V" } : Jvm.MethodName) prog_2_method_14_code (5 : Nat) (Option.none : Option Jvm.ClassFile.FieldType)) ∈ lw_all := lw_g (lw_at lw_m8 30 rfl) rfl
theorem q1975 : (Jvm.Cond.methodLink "ResourceLedger$Checker" (278 : Nat) ({ cls := "ResourceLedger$Checker", name := "useLocal", desc := "(II)V" } : Jvm.MethodName)) ∈ lw_all := lw_g (lw_at lw_m8 31 rfl) rfl
theorem q1976 : (Jvm.Cond.privateMethod ({ cls := "ResourceLedger$Checker", name := "useLocal", desc := "(II)V" } : Jvm.MethodName)) ∈ lw_tbl := lw_at lw_m8 32 rfl
theorem q1977 : (Jvm.Cond.instanceMethod ({ cls := "ResourceLedger$Checker", name := "useLocal", desc := "(II)V" } : Jvm.MethodName)) ∈ lw_all := lw_g (lw_at lw_m8 33 rfl) rfl
theorem q1978 : (Jvm.Cond.code ({ cls := "ResourceLedger$Checker", name := "useLocal", desc := "(II)V" } : Jvm.MethodName) prog_2_method_20_code (8 : Nat) (Option.none : Option Jvm.ClassFile.FieldType)) ∈ lw_all := lw_g (lw_at lw_m8 34 rfl) rfl
theorem q1979 : (Jvm.Cond.methodLink "ResourceLedger$Checker" (175 : Nat) ({ cls := "ResourceLedger$Checker", name := "isLive", desc := "(JI)Z" } : Jvm.MethodName)) ∈ lw_all := lw_g (lw_at lw_m8 35 rfl) rfl
theorem q1980 : (Jvm.Cond.privateMethod ({ cls := "ResourceLedger$Checker", name := "isLive", desc := "(JI)Z" } : Jvm.MethodName)) ∈ lw_tbl := lw_at lw_m8 36 rfl
theorem q1981 : (Jvm.Cond.instanceMethod ({ cls := "ResourceLedger$Checker", name := "isLive", desc := "(JI)Z" } : Jvm.MethodName)) ∈ lw_all := lw_g (lw_at lw_m8 37 rfl) rfl
theorem q1982 : (Jvm.Cond.code ({ cls := "ResourceLedger$Checker", name := "isLive", desc := "(JI)Z" } : Jvm.MethodName) prog_2_method_17_code (8 : Nat) (Option.some Jvm.ClassFile.FieldType.boolean)) ∈ lw_all := lw_g (lw_at lw_m8 38 rfl) rfl
theorem q1983 : (Jvm.Cond.constantLong "ResourceLedger$Checker" (158 : Nat) (9223372036854775807 : Int64)) ∈ lw_all := lw_g (lw_at lw_m8 39 rfl) rfl
theorem q1984 : (Jvm.Cond.methodLink "ResourceLedger$Checker" (160 : Nat) ({ cls := "ResourceLedger$Checker", name := "counts", desc := "(JJI)Z" } : Jvm.MethodName)) ∈ lw_all := lw_g (lw_at lw_m8 40 rfl) rfl
theorem q1985 : (Jvm.Cond.static ({ cls := "ResourceLedger$Checker", name := "counts", desc := "(JJI)Z" } : Jvm.MethodName)) ∈ lw_all := lw_g (lw_at lw_m8 41 rfl) rfl
theorem q1986 : (Jvm.Cond.code ({ cls := "ResourceLedger$Checker", name := "counts", desc := "(JJI)Z" } : Jvm.MethodName) prog_2_method_16_code (5 : Nat) (Option.some Jvm.ClassFile.FieldType.boolean)) ∈ lw_all := lw_g (lw_at lw_m8 42 rfl) rfl
theorem q1987 : (Jvm.Cond.methodLink "ResourceLedger$Checker" (148 : Nat) ({ cls := "ResourceLedger$Type", name := "isWriting", desc := "(J)Z" } : Jvm.MethodName)) ∈ lw_all := lw_g (lw_at lw_m8 43 rfl) rfl
theorem q1990 : (Jvm.Cond.methodLink "ResourceLedger$Checker" (196 : Nat) ({ cls := "ResourceLedger$Type", name := "with", desc := "(IJ)J" } : Jvm.MethodName)) ∈ lw_all := lw_g (lw_at lw_m8 46 rfl) rfl
theorem q1993 : (Jvm.Cond.methodLink "ResourceLedger$Checker" (281 : Nat) ({ cls := "ResourceLedger$Checker", name := "borrowField", desc := "(ZII)V" } : Jvm.MethodName)) ∈ lw_all := lw_g (lw_at lw_m8 49 rfl) rfl
theorem q1994 : (Jvm.Cond.privateMethod ({ cls := "ResourceLedger$Checker", name := "borrowField", desc := "(ZII)V" } : Jvm.MethodName)) ∈ lw_tbl := lw_at lw_m8 50 rfl
theorem q1995 : (Jvm.Cond.instanceMethod ({ cls := "ResourceLedger$Checker", name := "borrowField", desc := "(ZII)V" } : Jvm.MethodName)) ∈ lw_all := lw_g (lw_at lw_m8 51 rfl) rfl
theorem q1996 : (Jvm.Cond.code ({ cls := "ResourceLedger$Checker", name := "borrowField", desc := "(ZII)V" } : Jvm.MethodName) prog_2_method_22_code (4 : Nat) (Option.none : Option Jvm.ClassFile.FieldType)) ∈ lw_all := lw_g (lw_at lw_m8 52 rfl) rfl
theorem q1997 : (Jvm.Cond.methodLink "ResourceLedger$Checker" (203 : Nat) ({ cls := "ResourceLedger$Type", name := "structureOf", desc := "(I)J" } : Jvm.MethodName)) ∈ lw_all := lw_g (lw_at lw_m8 53 rfl) rfl
theorem q2001 : (Jvm.Cond.methodLink "ResourceLedger$Checker" (206 : Nat) ({ cls := "ResourceLedger$Checker", name := "takeReference", desc := "(JZ)V" } : Jvm.MethodName)) ∈ lw_all := lw_g (lw_at lw_m8 57 rfl) rfl
theorem q2002 : (Jvm.Cond.privateMethod ({ cls := "ResourceLedger$Checker", name := "takeReference", desc := "(JZ)V" } : Jvm.MethodName)) ∈ lw_tbl := lw_at lw_m8 58 rfl
theorem q2003 : (Jvm.Cond.instanceMethod ({ cls := "ResourceLedger$Checker", name := "takeReference", desc := "(JZ)V" } : Jvm.MethodName)) ∈ lw_all := lw_g (lw_at lw_m8 59 rfl) rfl
theorem q2004 : (Jvm.Cond.code ({ cls := "ResourceLedger$Checker", name := "takeReference", desc := "(JZ)V" } : Jvm.MethodName) prog_2_method_12_code (4 : Nat) (Option.none : Option Jvm.ClassFile.FieldType)) ∈ lw_all := lw_g (lw_at lw_m8 60 rfl) rfl
theorem q2005 : (Jvm.Cond.methodLink "ResourceLedger$Checker" (210 : Nat) ({ cls := "ResourceLedger$Checker", name := "fieldOf", desc := "(II)J" } : Jvm.MethodName)) ∈ lw_all := lw_g (lw_at lw_m8 61 rfl) rfl
theorem q2006 : (Jvm.Cond.privateMethod ({ cls := "ResourceLedger$Checker", name := "fieldOf", desc := "(II)J" } : Jvm.MethodName)) ∈ lw_tbl := lw_at lw_m8 62 rfl
theorem q2007 : (Jvm.Cond.instanceMethod ({ cls := "ResourceLedger$Checker", name := "fieldOf", desc := "(II)J" } : Jvm.MethodName)) ∈ lw_all := lw_g (lw_at lw_m8 63 rfl) rfl
theorem q2008 : (Jvm.Cond.code ({ cls := "ResourceLedger$Checker", name := "fieldOf", desc := "(II)J" } : Jvm.MethodName) prog_2_method_6_code (3 : Nat) (Option.some Jvm.ClassFile.FieldType.long)) ∈ lw_all := lw_g (lw_at lw_m8 64 rfl) rfl
theorem q2009 : (Jvm.Cond.constantLong "ResourceLedger$Checker" (214 : Nat) (-9223372036854775808 : Int64)) ∈ lw_all := lw_g (lw_at lw_m8 65 rfl) rfl
theorem q2010 : (Jvm.Cond.methodLink "ResourceLedger$Checker" (285 : Nat) ({ cls := "ResourceLedger$Checker", name := "reference", desc := "(I)V" } : Jvm.MethodName)) ∈ lw_all := lw_g (lw_at lw_m8 66 rfl) rfl
theorem q2011 : (Jvm.Cond.privateMethod ({ cls := "ResourceLedger$Checker", name := "reference", desc := "(I)V" } : Jvm.MethodName)) ∈ lw_tbl := lw_at lw_m8 67 rfl
theorem q2012 : (Jvm.Cond.instanceMethod ({ cls := "ResourceLedger$Checker", name := "reference", desc := "(I)V" } : Jvm.MethodName)) ∈ lw_all := lw_g (lw_at lw_m8 68 rfl) rfl
theorem q2013 : (Jvm.Cond.code ({ cls := "ResourceLedger$Checker", name := "reference", desc := "(I)V" } : Jvm.MethodName) prog_2_method_21_code (6 : Nat) (Option.none : Option Jvm.ClassFile.FieldType)) ∈ lw_all := lw_g (lw_at lw_m8 69 rfl) rfl
theorem q2014 : (Jvm.Cond.methodLink "ResourceLedger$Checker" (200 : Nat) ({ cls := "ResourceLedger$Checker", name := "needSole", desc := "()V" } : Jvm.MethodName)) ∈ lw_all := lw_g (lw_at lw_m8 70 rfl) rfl
theorem q2015 : (Jvm.Cond.privateMethod ({ cls := "ResourceLedger$Checker", name := "needSole", desc := "()V" } : Jvm.MethodName)) ∈ lw_tbl := lw_at lw_m8 71 rfl
theorem q2016 : (Jvm.Cond.instanceMethod ({ cls := "ResourceLedger$Checker", name := "needSole", desc := "()V" } : Jvm.MethodName)) ∈ lw_all := lw_g (lw_at lw_m8 72 rfl) rfl
theorem q2017 : (Jvm.Cond.code ({ cls := "ResourceLedger$Checker", name := "needSole", desc := "()V" } : Jvm.MethodName) prog_2_method_18_code (1 : Nat) (Option.none : Option Jvm.ClassFile.FieldType)) ∈ lw_all := lw_g (lw_at lw_m8 73 rfl) rfl
theorem q2018 : (Jvm.Cond.methodLink "ResourceLedger$Checker" (288 : Nat) ({ cls := "ResourceLedger$Checker", name := "pack", desc := "(I)V" } : Jvm.MethodName)) ∈ lw_all := lw_g (lw_at lw_m8 74 rfl) rfl
theorem q2019 : (Jvm.Cond.privateMethod ({ cls := "ResourceLedger$Checker", name := "pack", desc := "(I)V" } : Jvm.MethodName)) ∈ lw_tbl := lw_at lw_m8 75 rfl
theorem q2020 : (Jvm.Cond.instanceMethod ({ cls := "ResourceLedger$Checker", name := "pack", desc := "(I)V" } : Jvm.MethodName)) ∈ lw_all := lw_g (lw_at lw_m8 76 rfl) rfl
theorem q2021 : (Jvm.Cond.code ({ cls := "ResourceLedger$Checker", name := "pack", desc := "(I)V" } : Jvm.MethodName) prog_2_method_23_code (3 : Nat) (Option.none : Option Jvm.ClassFile.FieldType)) ∈ lw_all := lw_g (lw_at lw_m8 77 rfl) rfl
theorem q2022 : (Jvm.Cond.methodLink "ResourceLedger$Checker" (291 : Nat) ({ cls := "ResourceLedger$Checker", name := "unpack", desc := "(I)V" } : Jvm.MethodName)) ∈ lw_all := lw_g (lw_at lw_m8 78 rfl) rfl
theorem q2023 : (Jvm.Cond.privateMethod ({ cls := "ResourceLedger$Checker", name := "unpack", desc := "(I)V" } : Jvm.MethodName)) ∈ lw_tbl := lw_at lw_m8 79 rfl
theorem q2024 : (Jvm.Cond.instanceMethod ({ cls := "ResourceLedger$Checker", name := "unpack", desc := "(I)V" } : Jvm.MethodName)) ∈ lw_all := lw_g (lw_at lw_m8 80 rfl) rfl
theorem q2025 : (Jvm.Cond.code ({ cls := "ResourceLedger$Checker", name := "unpack", desc := "(I)V" } : Jvm.MethodName) prog_2_method_24_code (3 : Nat) (Option.none : Option Jvm.ClassFile.FieldType)) ∈ lw_all := lw_g (lw_at lw_m8 81 rfl) rfl
theorem q2026 : (Jvm.Cond.methodLink "ResourceLedger$Checker" (294 : Nat) ({ cls := "ResourceLedger$Tables", name := "functionAt", desc := "(I)LResourceLedger$Function;" } : Jvm.MethodName)) ∈ lw_all := lw_g (lw_at lw_m8 82 rfl) rfl
theorem q2027 : (Jvm.Cond.methodLink "ResourceLedger$Checker" (298 : Nat) ({ cls := "ResourceLedger$Checker", name := "call", desc := "(LResourceLedger$Function;)V" } : Jvm.MethodName)) ∈ lw_all := lw_g (lw_at lw_m8 83 rfl) rfl
theorem q2028 : (Jvm.Cond.privateMethod ({ cls := "ResourceLedger$Checker", name := "call", desc := "(LResourceLedger$Function;)V" } : Jvm.MethodName)) ∈ lw_tbl := lw_at lw_m8 84 rfl
theorem q2029 : (Jvm.Cond.instanceMethod ({ cls := "ResourceLedger$Checker", name := "call", desc := "(LResourceLedger$Function;)V" } : Jvm.MethodName)) ∈ lw_all := lw_g (lw_at lw_m8 85 rfl) rfl
theorem q2030 : (Jvm.Cond.code ({ cls := "ResourceLedger$Checker", name := "call", desc := "(LResourceLedger$Function;)V" } : Jvm.MethodName) prog_2_method_25_code (11 : Nat) (Option.none : Option Jvm.ClassFile.FieldType)) ∈ lw_all := lw_g (lw_at lw_m8 86 rfl) rfl
theorem q2031 : (Jvm.Cond.methodLink "ResourceLedger$Checker" (216 : Nat) ({ cls := "ResourceLedger$Checker", name := "hasResources", desc := "(LResourceLedger$Function;)Z" } : Jvm.MethodName)) ∈ lw_all := lw_g (lw_at lw_m8 87 rfl) rfl
theorem q2032 : (Jvm.Cond.static ({ cls := "ResourceLedger$Checker", name := "hasResources", desc := "(LResourceLedger$Function;)Z" } : Jvm.MethodName)) ∈ lw_all := lw_g (lw_at lw_m8 88 rfl) rfl
theorem q2033 : (Jvm.Cond.code ({ cls := "ResourceLedger$Checker", name := "hasResources", desc := "(LResourceLedger$Function;)Z" } : Jvm.MethodName) prog_2_method_2_code (1 : Nat) (Option.some Jvm.ClassFile.FieldType.boolean)) ∈ lw_all := lw_g (lw_at lw_m8 89 rfl) rfl
theorem q2034 : (Jvm.Cond.constantLong "ResourceLedger$Checker" (220 : Nat) (9223090561878065152 : Int64)) ∈ lw_all := lw_g (lw_at lw_m8 90 rfl) rfl
theorem q2035 : (Jvm.Cond.methodLink "ResourceLedger$Checker" (302 : Nat) ({ cls := "ResourceLedger$Checker", name := "reckon", desc := "(I)V" } : Jvm.MethodName)) ∈ lw_all := lw_g (lw_at lw_m8 91 rfl) rfl
theorem q2036 : (Jvm.Cond.privateMethod ({ cls := "ResourceLedger$Checker", name := "reckon", desc := "(I)V" } : Jvm.MethodName)) ∈ lw_tbl := lw_at lw_m8 92 rfl
theorem q2037 : (Jvm.Cond.instanceMethod ({ cls := "ResourceLedger$Checker", name := "reckon", desc := "(I)V" } : Jvm.MethodName)) ∈ lw_all := lw_g (lw_at lw_m8 93 rfl) rfl
theorem q2038 : (Jvm.Cond.code ({ cls := "ResourceLedger$Checker", name := "reckon", desc := "(I)V" } : Jvm.MethodName) prog_2_method_28_code (4 : Nat) (Option.none : Option Jvm.ClassFile.FieldType)) ∈ lw_all := lw_g (lw_at lw_m8 94 rfl) rfl
theorem q2039 : (Jvm.Cond.methodLink "ResourceLedger$Checker" (151 : Nat) ({ cls := "ResourceLedger$Type", name := "isNumber", desc := "(J)Z" } : Jvm.MethodName)) ∈ lw_all := lw_g (lw_at lw_m8 95 rfl) rfl
theorem q2045 : (Jvm.Cond.methodLink "ResourceLedger$Checker" (232 : Nat) ({ cls := "ResourceLedger$Checker", name := "takeNumber", desc := "()V" } : Jvm.MethodName)) ∈ lw_all := lw_g (lw_at lw_m8 101 rfl) rfl
theorem q2046 : (Jvm.Cond.privateMethod ({ cls := "ResourceLedger$Checker", name := "takeNumber", desc := "()V" } : Jvm.MethodName)) ∈ lw_tbl := lw_at lw_m8 102 rfl
theorem q2047 : (Jvm.Cond.instanceMethod ({ cls := "ResourceLedger$Checker", name := "takeNumber", desc := "()V" } : Jvm.MethodName)) ∈ lw_all := lw_g (lw_at lw_m8 103 rfl) rfl
theorem q2048 : (Jvm.Cond.code ({ cls := "ResourceLedger$Checker", name := "takeNumber", desc := "()V" } : Jvm.MethodName) prog_2_method_13_code (1 : Nat) (Option.none : Option Jvm.ClassFile.FieldType)) ∈ lw_all := lw_g (lw_at lw_m8 104 rfl) rfl
theorem q2049 : (Jvm.Cond.methodLink "ResourceLedger$Checker" (305 : Nat) ({ cls := "ResourceLedger$Checker", name := "resource", desc := "(II)V" } : Jvm.MethodName)) ∈ lw_all := lw_g (lw_at lw_m8 105 rfl) rfl
theorem q2050 : (Jvm.Cond.privateMethod ({ cls := "ResourceLedger$Checker", name := "resource", desc := "(II)V" } : Jvm.MethodName)) ∈ lw_tbl := lw_at lw_m8 106 rfl
theorem q2051 : (Jvm.Cond.instanceMethod ({ cls := "ResourceLedger$Checker", name := "resource", desc := "(II)V" } : Jvm.MethodName)) ∈ lw_all := lw_g (lw_at lw_m8 107 rfl) rfl
theorem q2052 : (Jvm.Cond.code ({ cls := "ResourceLedger$Checker", name := "resource", desc := "(II)V" } : Jvm.MethodName) prog_2_method_26_code (5 : Nat) (Option.none : Option Jvm.ClassFile.FieldType)) ∈ lw_all := lw_g (lw_at lw_m8 108 rfl) rfl
theorem q2053 : (Jvm.Cond.methodLink "ResourceLedger$Checker" (308 : Nat) ({ cls := "ResourceLedger$Checker", name := "vector", desc := "(III)V" } : Jvm.MethodName)) ∈ lw_all := lw_g (lw_at lw_m8 109 rfl) rfl
theorem q2054 : (Jvm.Cond.privateMethod ({ cls := "ResourceLedger$Checker", name := "vector", desc := "(III)V" } : Jvm.MethodName)) ∈ lw_tbl := lw_at lw_m8 110 rfl
theorem q2055 : (Jvm.Cond.instanceMethod ({ cls := "ResourceLedger$Checker", name := "vector", desc := "(III)V" } : Jvm.MethodName)) ∈ lw_all := lw_g (lw_at lw_m8 111 rfl) rfl
theorem q2056 : (Jvm.Cond.code ({ cls := "ResourceLedger$Checker", name := "vector", desc := "(III)V" } : Jvm.MethodName) prog_2_method_27_code (9 : Nat) (Option.none : Option Jvm.ClassFile.FieldType)) ∈ lw_all := lw_g (lw_at lw_m8 112 rfl) rfl
theorem q2057 : (Jvm.Cond.methodLink "ResourceLedger$Checker" (312 : Nat) ({ cls := "ResourceLedger$Checker", name := "bytes", desc := "()V" } : Jvm.MethodName)) ∈ lw_all := lw_g (lw_at lw_m8 113 rfl) rfl
theorem q2058 : (Jvm.Cond.privateMethod ({ cls := "ResourceLedger$Checker", name := "bytes", desc := "()V" } : Jvm.MethodName)) ∈ lw_tbl := lw_at lw_m8 114 rfl
theorem q2059 : (Jvm.Cond.instanceMethod ({ cls := "ResourceLedger$Checker", name := "bytes", desc := "()V" } : Jvm.MethodName)) ∈ lw_all := lw_g (lw_at lw_m8 115 rfl) rfl
theorem q2060 : (Jvm.Cond.code ({ cls := "ResourceLedger$Checker", name := "bytes", desc := "()V" } : Jvm.MethodName) prog_2_method_38_code (1 : Nat) (Option.none : Option Jvm.ClassFile.FieldType)) ∈ lw_all := lw_g (lw_at lw_m8 116 rfl) rfl
theorem q2061 : (Jvm.Cond.constantLong "ResourceLedger$Checker" (315 : Nat) (1794 : Int64)) ∈ lw_all := lw_g (lw_at lw_m8 117 rfl) rfl
theorem in_X13 : ∀ w ∈ wsX130, w ∈ lw_all := lw_in wsX130 [796, 798, 800, 802, 804, 806, 808, 810, 812, 814, 816, 818, 820, 822, 824, 826] (by decide +kernel) (by decide +kernel)
end
section
-- ResourceLedger$Checker$States
set_option maxRecDepth 100000
def RX14 : String := "ResourceLedger$Checker$States"
def TX14 : u_T := fun k => match k with
  | 0 => ("ResourceLedger$Checker$States", "came", "[Z", true)
  | 1 => ("ResourceLedger$Checker$States", "there", "[J", true)
  | _ => ("ResourceLedger$Checker$States", "origins", "[J", true)
def tyX14 : Nat → FieldType := fun k => match k with
  | 0 => .array .boolean
  | 1 => .array .long
  | _ => .array .long
abbrev wsX140 : List Cond := u_ws RX14 TX14 3
theorem nmX14 : ∀ a, a < 3 → ∀ b, b < 3 → a ≠ b → (TX14 a).2.1 ≠ (TX14 b).2.1 := by decide +kernel
theorem tyX14_ok : ∀ k, k < 3 → parseFieldDescriptor (TX14 k).2.2.1 = some (tyX14 k) := by decide +kernel
abbrev cX14_init : ByteArray := prog_3_method_1_code
def yX14_init : MethodName := ⟨RX14, "<init>", "()V"⟩
abbrev cX14_get : ByteArray := prog_3_method_2_code
def yX14_get : MethodName := ⟨RX14, "get", "(II)J"⟩
abbrev cX14_isThere : ByteArray := prog_3_method_3_code
def yX14_isThere : MethodName := ⟨RX14, "isThere", "(II)Z"⟩
theorem q282 : (Jvm.Cond.initialized "ResourceLedger$Checker$States") ∈ lw_all := lw_g (lw_at lw_m1 18 rfl) rfl
theorem q743 : (Jvm.Cond.instantiable "ResourceLedger$Checker$States" (3 : Nat)) ∈ lw_all := lw_g (lw_at lw_m2 239 rfl) rfl
theorem q745 : (Jvm.Cond.instanceMethod ({ cls := "ResourceLedger$Checker$States", name := "<init>", desc := "()V" } : Jvm.MethodName)) ∈ lw_all := lw_g (lw_at lw_m3 1 rfl) rfl
theorem q746 : (Jvm.Cond.code ({ cls := "ResourceLedger$Checker$States", name := "<init>", desc := "()V" } : Jvm.MethodName) prog_3_method_1_code (1 : Nat) (Option.none : Option Jvm.ClassFile.FieldType)) ∈ lw_all := lw_g (lw_at lw_m3 2 rfl) rfl
theorem q747 : (Jvm.Cond.methodLink "ResourceLedger$Checker$States" (1 : Nat) ({ cls := "java/lang/Object", name := "<init>", desc := "()V" } : Jvm.MethodName)) ∈ lw_all := lw_g (lw_at lw_m3 3 rfl) rfl
theorem q748 : (Jvm.Cond.constant "ResourceLedger$Checker$States" (17 : Nat) (40960 : Int32)) ∈ lw_all := lw_g (lw_at lw_m3 4 rfl) rfl
theorem q749 : (Jvm.Cond.fieldLink "ResourceLedger$Checker$States" (7 : Nat) "ResourceLedger$Checker$States" "came" "[Z") ∈ lw_all := lw_g (lw_at lw_m3 5 rfl) rfl
theorem q751 : (Jvm.Cond.fieldLink "ResourceLedger$Checker$States" (13 : Nat) "ResourceLedger$Checker$States" "there" "[J") ∈ lw_all := lw_g (lw_at lw_m3 7 rfl) rfl
theorem q753 : (Jvm.Cond.fieldLink "ResourceLedger$Checker$States" (18 : Nat) "ResourceLedger$Checker$States" "origins" "[J") ∈ lw_all := lw_g (lw_at lw_m3 9 rfl) rfl
theorem q755 : (Jvm.Cond.laysFinal "ResourceLedger$Checker$States" "ResourceLedger$Checker$States" "came" "[Z") ∈ lw_all := lw_g (lw_at lw_m3 11 rfl) rfl
theorem q756 : (Jvm.Cond.soleField "ResourceLedger$Checker$States" "came") ∈ lw_all := lw_g (lw_at lw_m3 12 rfl) rfl
theorem q757 : (Jvm.Cond.laysFinal "ResourceLedger$Checker$States" "ResourceLedger$Checker$States" "there" "[J") ∈ lw_all := lw_g (lw_at lw_m3 13 rfl) rfl
theorem q758 : (Jvm.Cond.soleField "ResourceLedger$Checker$States" "there") ∈ lw_all := lw_g (lw_at lw_m3 14 rfl) rfl
theorem q759 : (Jvm.Cond.laysFinal "ResourceLedger$Checker$States" "ResourceLedger$Checker$States" "origins" "[J") ∈ lw_all := lw_g (lw_at lw_m3 15 rfl) rfl
theorem q760 : (Jvm.Cond.soleField "ResourceLedger$Checker$States" "origins") ∈ lw_all := lw_g (lw_at lw_m3 16 rfl) rfl
theorem q761 : (Jvm.Cond.superclass "ResourceLedger$Checker$States" "java/lang/Object") ∈ lw_all := lw_g (lw_at lw_m3 17 rfl) rfl
theorem q1907 : (Jvm.Cond.instanceMethod ({ cls := "ResourceLedger$Checker$States", name := "get", desc := "(II)J" } : Jvm.MethodName)) ∈ lw_all := lw_g (lw_at lw_m7 203 rfl) rfl
theorem q1908 : (Jvm.Cond.selects "ResourceLedger$Checker$States" ({ cls := "ResourceLedger$Checker$States", name := "get", desc := "(II)J" } : Jvm.MethodName) ({ cls := "ResourceLedger$Checker$States", name := "get", desc := "(II)J" } : Jvm.MethodName)) ∈ lw_all := lw_g (lw_at lw_m7 204 rfl) rfl
theorem q1909 : (Jvm.Cond.code ({ cls := "ResourceLedger$Checker$States", name := "get", desc := "(II)J" } : Jvm.MethodName) prog_3_method_2_code (3 : Nat) (Option.some Jvm.ClassFile.FieldType.long)) ∈ lw_all := lw_g (lw_at lw_m7 205 rfl) rfl
theorem q1952 : (Jvm.Cond.instanceMethod ({ cls := "ResourceLedger$Checker$States", name := "isThere", desc := "(II)Z" } : Jvm.MethodName)) ∈ lw_all := lw_g (lw_at lw_m8 8 rfl) rfl
theorem q1953 : (Jvm.Cond.selects "ResourceLedger$Checker$States" ({ cls := "ResourceLedger$Checker$States", name := "isThere", desc := "(II)Z" } : Jvm.MethodName) ({ cls := "ResourceLedger$Checker$States", name := "isThere", desc := "(II)Z" } : Jvm.MethodName)) ∈ lw_all := lw_g (lw_at lw_m8 9 rfl) rfl
theorem q1954 : (Jvm.Cond.code ({ cls := "ResourceLedger$Checker$States", name := "isThere", desc := "(II)Z" } : Jvm.MethodName) prog_3_method_3_code (3 : Nat) (Option.some Jvm.ClassFile.FieldType.boolean)) ∈ lw_all := lw_g (lw_at lw_m8 10 rfl) rfl
theorem in_X14 : ∀ w ∈ wsX140, w ∈ lw_all := lw_in wsX140 [755, 757, 759] (by decide +kernel) (by decide +kernel)
end
section
-- java/lang/IllegalStateException
set_option maxRecDepth 100000
def RJ4 : String := "java/lang/IllegalStateException"
def TJ4 : u_T := fun k => match k with
  | 0 => ("java/lang/Throwable", "cause", "Ljava/lang/Throwable;", false)
  | 1 => ("java/lang/Throwable", "stackTrace", "[Ljava/lang/StackTraceElement;", false)
  | 2 => ("java/lang/Throwable", "suppressedExceptions", "Ljava/util/List;", false)
  | 3 => ("java/lang/Throwable", "detailMessage", "Ljava/lang/String;", false)
  | 4 => ("java/lang/Throwable", "backtrace", "Ljava/lang/Object;", false)
  | _ => ("java/lang/Throwable", "depth", "I", false)
def tyJ4 : Nat → FieldType := fun k => match k with
  | 0 => .object "java/lang/Throwable"
  | 1 => .array (.object "java/lang/StackTraceElement")
  | 2 => .object "java/util/List"
  | 3 => .object "java/lang/String"
  | 4 => .object "java/lang/Object"
  | _ => .int
abbrev wsJ40 : List Cond := u_ws RJ4 TJ4 6
theorem nmJ4 : ∀ a, a < 6 → ∀ b, b < 6 → a ≠ b → (TJ4 a).2.1 ≠ (TJ4 b).2.1 := by decide +kernel
theorem tyJ4_ok : ∀ k, k < 6 → parseFieldDescriptor (TJ4 k).2.2.1 = some (tyJ4 k) := by decide +kernel
abbrev cJ4_init : ByteArray := prog_37_method_2_code
def yJ4_init : MethodName := ⟨RJ4, "<init>", "(Ljava/lang/String;)V"⟩
theorem q283 : (Jvm.Cond.initialized "java/lang/IllegalStateException") ∈ lw_all := lw_g (lw_at lw_m1 19 rfl) rfl
theorem q672 : (Jvm.Cond.selects "java/lang/IllegalStateException" ({ cls := "java/lang/Throwable", name := "fillInStackTrace", desc := "()Ljava/lang/Throwable;" } : Jvm.MethodName) ({ cls := "java/lang/Throwable", name := "fillInStackTrace", desc := "()Ljava/lang/Throwable;" } : Jvm.MethodName)) ∈ lw_all := lw_g (lw_at lw_m2 168 rfl) rfl
theorem q764 : (Jvm.Cond.instantiable "java/lang/IllegalStateException" (6 : Nat)) ∈ lw_all := lw_g (lw_at lw_m3 20 rfl) rfl
theorem q765 : (Jvm.Cond.castable "java/lang/IllegalStateException" "java/lang/IllegalStateException") ∈ lw_tbl := lw_at lw_m3 21 rfl
theorem q766 : (Jvm.Cond.selects "java/lang/IllegalStateException" ({ cls := "java/lang/Throwable", name := "fillInStackTrace", desc := "(I)Ljava/lang/Throwable;" } : Jvm.MethodName) ({ cls := "java/lang/Throwable", name := "fillInStackTrace", desc := "(I)Ljava/lang/Throwable;" } : Jvm.MethodName)) ∈ lw_all := lw_g (lw_at lw_m3 22 rfl) rfl
theorem q767 : (Jvm.Cond.lays "java/lang/IllegalStateException" "java/lang/Throwable" "cause" "Ljava/lang/Throwable;") ∈ lw_all := lw_g (lw_at lw_m3 23 rfl) rfl
theorem q768 : (Jvm.Cond.lays "java/lang/IllegalStateException" "java/lang/Throwable" "stackTrace" "[Ljava/lang/StackTraceElement;") ∈ lw_all := lw_g (lw_at lw_m3 24 rfl) rfl
theorem q769 : (Jvm.Cond.lays "java/lang/IllegalStateException" "java/lang/Throwable" "suppressedExceptions" "Ljava/util/List;") ∈ lw_all := lw_g (lw_at lw_m3 25 rfl) rfl
theorem q770 : (Jvm.Cond.lays "java/lang/IllegalStateException" "java/lang/Throwable" "detailMessage" "Ljava/lang/String;") ∈ lw_all := lw_g (lw_at lw_m3 26 rfl) rfl
theorem q771 : (Jvm.Cond.lays "java/lang/IllegalStateException" "java/lang/Throwable" "backtrace" "Ljava/lang/Object;") ∈ lw_all := lw_g (lw_at lw_m3 27 rfl) rfl
theorem q774 : (Jvm.Cond.instanceMethod ({ cls := "java/lang/IllegalStateException", name := "<init>", desc := "(Ljava/lang/String;)V" } : Jvm.MethodName)) ∈ lw_all := lw_g (lw_at lw_m3 30 rfl) rfl
theorem q775 : (Jvm.Cond.code ({ cls := "java/lang/IllegalStateException", name := "<init>", desc := "(Ljava/lang/String;)V" } : Jvm.MethodName) prog_37_method_2_code (2 : Nat) (Option.none : Option Jvm.ClassFile.FieldType)) ∈ lw_all := lw_g (lw_at lw_m3 31 rfl) rfl
theorem q776 : (Jvm.Cond.methodLink "java/lang/IllegalStateException" (7 : Nat) ({ cls := "java/lang/RuntimeException", name := "<init>", desc := "(Ljava/lang/String;)V" } : Jvm.MethodName)) ∈ lw_all := lw_g (lw_at lw_m3 32 rfl) rfl
theorem q777 : (Jvm.Cond.lays "java/lang/IllegalStateException" "java/lang/Throwable" "depth" "I") ∈ lw_all := lw_g (lw_at lw_m3 33 rfl) rfl
theorem q778 : (Jvm.Cond.superclass "java/lang/IllegalStateException" "java/lang/RuntimeException") ∈ lw_all := lw_g (lw_at lw_m3 34 rfl) rfl
theorem in_J4 : ∀ w ∈ wsJ40, w ∈ lw_all := lw_in wsJ40 [767, 768, 769, 770, 771, 777] (by decide +kernel) (by decide +kernel)
end
section
-- ResourceLedger$HashTree
set_option maxRecDepth 100000
def RX15 : String := "ResourceLedger$HashTree"
def TX15 : u_T := fun k => match k with
  | 0 => ("ResourceLedger$HashTree", "digest", "LResourceLedger$HashTree$Digest;", true)
  | 1 => ("ResourceLedger$HashTree", "nodes", "LResourceLedger$HashTree$Nodes;", true)
  | 2 => ("ResourceLedger$HashTree", "top", "I", false)
  | 3 => ("ResourceLedger$HashTree", "count", "I", false)
  | 4 => ("ResourceLedger$HashTree", "asked", "LResourceLedger$HashTree$Fours;", true)
  | 5 => ("ResourceLedger$HashTree", "waiting", "[I", true)
  | _ => ("ResourceLedger$HashTree", "zero", "LResourceLedger$HashTree$Fours;", true)
def tyX15 : Nat → FieldType := fun k => match k with
  | 0 => .object "ResourceLedger$HashTree$Digest"
  | 1 => .object "ResourceLedger$HashTree$Nodes"
  | 2 => .int
  | 3 => .int
  | 4 => .object "ResourceLedger$HashTree$Fours"
  | 5 => .array .int
  | _ => .object "ResourceLedger$HashTree$Fours"
abbrev wsX150 : List Cond := u_ws RX15 TX15 7
theorem nmX15 : ∀ a, a < 7 → ∀ b, b < 7 → a ≠ b → (TX15 a).2.1 ≠ (TX15 b).2.1 := by decide +kernel
theorem tyX15_ok : ∀ k, k < 7 → parseFieldDescriptor (TX15 k).2.2.1 = some (tyX15 k) := by decide +kernel
abbrev cX15_init : ByteArray := prog_10_method_1_code
def yX15_init : MethodName := ⟨RX15, "<init>", "()V"⟩
abbrev cX15_begin : ByteArray := prog_10_method_2_code
def yX15_begin : MethodName := ⟨RX15, "begin", "()V"⟩
abbrev cX15_key : ByteArray := prog_10_method_5_code
def yX15_key : MethodName := ⟨RX15, "key", "(JJJJ)V"⟩
abbrev cX15_set : ByteArray := prog_10_method_6_code
def yX15_set : MethodName := ⟨RX15, "set", "(JJJJ)I"⟩
abbrev cX15_find : ByteArray := prog_10_method_4_code
def yX15_find : MethodName := ⟨RX15, "find", "()I"⟩
abbrev cX15_near : ByteArray := prog_10_method_3_code
def yX15_near : MethodName := ⟨RX15, "near", "()I"⟩
abbrev cX15_insert : ByteArray := prog_10_method_7_code
def yX15_insert : MethodName := ⟨RX15, "insert", "()I"⟩
abbrev cX15_root : ByteArray := prog_10_method_13_code
def yX15_root : MethodName := ⟨RX15, "root", "(I)J"⟩
abbrev cX15_isNumber : ByteArray := prog_10_method_8_code
def yX15_isNumber : MethodName := ⟨RX15, "isNumber", "(I)Z"⟩
abbrev cX15_refresh : ByteArray := prog_10_method_11_code
def yX15_refresh : MethodName := ⟨RX15, "refresh", "(I)V"⟩
abbrev cX15_hash : ByteArray := prog_10_method_9_code
def yX15_hash : MethodName := ⟨RX15, "hash", "(ILResourceLedger$HashTree$Fours;ILResourceLedger$HashTree$Fours;ILResourceLedger$HashTree$Fours;I)V"⟩
abbrev cX15_settle : ByteArray := prog_10_method_12_code
def yX15_settle : MethodName := ⟨RX15, "settle", "(II)I"⟩
abbrev cX15_raise : ByteArray := prog_10_method_10_code
def yX15_raise : MethodName := ⟨RX15, "raise", "(IILResourceLedger$HashTree$Fours;I)V"⟩
theorem q284 : (Jvm.Cond.initialized "ResourceLedger$HashTree") ∈ lw_all := lw_g (lw_at lw_m1 20 rfl) rfl
theorem q830 : (Jvm.Cond.instantiable "ResourceLedger$HashTree" (7 : Nat)) ∈ lw_all := lw_g (lw_at lw_m3 86 rfl) rfl
theorem q832 : (Jvm.Cond.instanceMethod ({ cls := "ResourceLedger$HashTree", name := "<init>", desc := "()V" } : Jvm.MethodName)) ∈ lw_all := lw_g (lw_at lw_m3 88 rfl) rfl
theorem q833 : (Jvm.Cond.code ({ cls := "ResourceLedger$HashTree", name := "<init>", desc := "()V" } : Jvm.MethodName) prog_10_method_1_code (1 : Nat) (Option.none : Option Jvm.ClassFile.FieldType)) ∈ lw_all := lw_g (lw_at lw_m3 89 rfl) rfl
theorem q834 : (Jvm.Cond.methodLink "ResourceLedger$HashTree" (3 : Nat) ({ cls := "java/lang/Object", name := "<init>", desc := "()V" } : Jvm.MethodName)) ∈ lw_all := lw_g (lw_at lw_m3 90 rfl) rfl
theorem q835 : (Jvm.Cond.classLink "ResourceLedger$HashTree" (9 : Nat) "ResourceLedger$HashTree$Digest") ∈ lw_all := lw_g (lw_at lw_m3 91 rfl) rfl
theorem q837 : (Jvm.Cond.methodLinkNest "ResourceLedger$HashTree" (11 : Nat) ({ cls := "ResourceLedger$HashTree$Digest", name := "<init>", desc := "()V" } : Jvm.MethodName) "ResourceLedger") ∈ lw_tbl := lw_at lw_m3 93 rfl
theorem q860 : (Jvm.Cond.classLink "ResourceLedger$HashTree" (18 : Nat) "ResourceLedger$HashTree$Nodes") ∈ lw_all := lw_g (lw_at lw_m3 116 rfl) rfl
theorem q862 : (Jvm.Cond.methodLinkNest "ResourceLedger$HashTree" (20 : Nat) ({ cls := "ResourceLedger$HashTree$Nodes", name := "<init>", desc := "()V" } : Jvm.MethodName) "ResourceLedger") ∈ lw_tbl := lw_at lw_m3 118 rfl
theorem q877 : (Jvm.Cond.fieldLinkNest "ResourceLedger$HashTree" (70 : Nat) "ResourceLedger$HashTree$Nodes" "keys" "LResourceLedger$HashTree$Fours;" "ResourceLedger") ∈ lw_tbl := lw_at lw_m3 133 rfl
theorem q879 : (Jvm.Cond.fieldLinkNest "ResourceLedger$HashTree" (87 : Nat) "ResourceLedger$HashTree$Nodes" "values" "LResourceLedger$HashTree$Fours;" "ResourceLedger") ∈ lw_tbl := lw_at lw_m3 135 rfl
theorem q881 : (Jvm.Cond.fieldLinkNest "ResourceLedger$HashTree" (133 : Nat) "ResourceLedger$HashTree$Nodes" "hashes" "LResourceLedger$HashTree$Fours;" "ResourceLedger") ∈ lw_tbl := lw_at lw_m3 137 rfl
theorem q883 : (Jvm.Cond.fieldLinkNest "ResourceLedger$HashTree" (153 : Nat) "ResourceLedger$HashTree$Nodes" "tops" "LResourceLedger$HashTree$Fours;" "ResourceLedger") ∈ lw_tbl := lw_at lw_m3 139 rfl
theorem q885 : (Jvm.Cond.fieldLinkNest "ResourceLedger$HashTree" (56 : Nat) "ResourceLedger$HashTree$Nodes" "levels" "[I" "ResourceLedger") ∈ lw_tbl := lw_at lw_m3 141 rfl
theorem q887 : (Jvm.Cond.fieldLinkNest "ResourceLedger$HashTree" (140 : Nat) "ResourceLedger$HashTree$Nodes" "lefts" "[I" "ResourceLedger") ∈ lw_tbl := lw_at lw_m3 143 rfl
theorem q889 : (Jvm.Cond.fieldLinkNest "ResourceLedger$HashTree" (143 : Nat) "ResourceLedger$HashTree$Nodes" "rights" "[I" "ResourceLedger") ∈ lw_tbl := lw_at lw_m3 145 rfl
theorem q891 : (Jvm.Cond.fieldLinkNest "ResourceLedger$HashTree" (105 : Nat) "ResourceLedger$HashTree$Nodes" "aboves" "[I" "ResourceLedger") ∈ lw_tbl := lw_at lw_m3 147 rfl
theorem q893 : (Jvm.Cond.fieldLinkNest "ResourceLedger$HashTree" (146 : Nat) "ResourceLedger$HashTree$Nodes" "fresh" "[Z" "ResourceLedger") ∈ lw_tbl := lw_at lw_m3 149 rfl
theorem q895 : (Jvm.Cond.fieldLinkNest "ResourceLedger$HashTree" (46 : Nat) "ResourceLedger$HashTree$Nodes" "free" "I" "ResourceLedger") ∈ lw_tbl := lw_at lw_m3 151 rfl
theorem q897 : (Jvm.Cond.fieldLinkNest "ResourceLedger$HashTree" (49 : Nat) "ResourceLedger$HashTree$Nodes" "made" "I" "ResourceLedger") ∈ lw_tbl := lw_at lw_m3 153 rfl
theorem q921 : (Jvm.Cond.classLink "ResourceLedger$HashTree" (29 : Nat) "ResourceLedger$HashTree$Fours") ∈ lw_all := lw_g (lw_at lw_m3 177 rfl) rfl
theorem q922 : (Jvm.Cond.methodLinkNest "ResourceLedger$HashTree" (31 : Nat) ({ cls := "ResourceLedger$HashTree$Fours", name := "<init>", desc := "()V" } : Jvm.MethodName) "ResourceLedger") ∈ lw_tbl := lw_at lw_m3 178 rfl
theorem q923 : (Jvm.Cond.fieldLink "ResourceLedger$HashTree" (12 : Nat) "ResourceLedger$HashTree" "digest" "LResourceLedger$HashTree$Digest;") ∈ lw_all := lw_g (lw_at lw_m3 179 rfl) rfl
theorem q925 : (Jvm.Cond.fieldLink "ResourceLedger$HashTree" (21 : Nat) "ResourceLedger$HashTree" "nodes" "LResourceLedger$HashTree$Nodes;") ∈ lw_all := lw_g (lw_at lw_m3 181 rfl) rfl
theorem q926 : (Jvm.Cond.fieldLink "ResourceLedger$HashTree" (25 : Nat) "ResourceLedger$HashTree" "top" "I") ∈ lw_all := lw_g (lw_at lw_m3 182 rfl) rfl
theorem q927 : (Jvm.Cond.fieldLink "ResourceLedger$HashTree" (43 : Nat) "ResourceLedger$HashTree" "count" "I") ∈ lw_all := lw_g (lw_at lw_m3 183 rfl) rfl
theorem q928 : (Jvm.Cond.fieldLink "ResourceLedger$HashTree" (32 : Nat) "ResourceLedger$HashTree" "asked" "LResourceLedger$HashTree$Fours;") ∈ lw_all := lw_g (lw_at lw_m3 184 rfl) rfl
theorem q929 : (Jvm.Cond.fieldLink "ResourceLedger$HashTree" (36 : Nat) "ResourceLedger$HashTree" "waiting" "[I") ∈ lw_all := lw_g (lw_at lw_m3 185 rfl) rfl
theorem q930 : (Jvm.Cond.fieldLink "ResourceLedger$HashTree" (40 : Nat) "ResourceLedger$HashTree" "zero" "LResourceLedger$HashTree$Fours;") ∈ lw_all := lw_g (lw_at lw_m3 186 rfl) rfl
theorem q931 : (Jvm.Cond.laysFinal "ResourceLedger$HashTree" "ResourceLedger$HashTree" "digest" "LResourceLedger$HashTree$Digest;") ∈ lw_all := lw_g (lw_at lw_m3 187 rfl) rfl
theorem q932 : (Jvm.Cond.soleField "ResourceLedger$HashTree" "digest") ∈ lw_all := lw_g (lw_at lw_m3 188 rfl) rfl
theorem q933 : (Jvm.Cond.laysFinal "ResourceLedger$HashTree" "ResourceLedger$HashTree" "nodes" "LResourceLedger$HashTree$Nodes;") ∈ lw_all := lw_g (lw_at lw_m3 189 rfl) rfl
theorem q934 : (Jvm.Cond.soleField "ResourceLedger$HashTree" "nodes") ∈ lw_all := lw_g (lw_at lw_m3 190 rfl) rfl
theorem q935 : (Jvm.Cond.lays "ResourceLedger$HashTree" "ResourceLedger$HashTree" "top" "I") ∈ lw_all := lw_g (lw_at lw_m3 191 rfl) rfl
theorem q936 : (Jvm.Cond.soleField "ResourceLedger$HashTree" "top") ∈ lw_all := lw_g (lw_at lw_m3 192 rfl) rfl
theorem q937 : (Jvm.Cond.lays "ResourceLedger$HashTree" "ResourceLedger$HashTree" "count" "I") ∈ lw_all := lw_g (lw_at lw_m3 193 rfl) rfl
theorem q938 : (Jvm.Cond.soleField "ResourceLedger$HashTree" "count") ∈ lw_all := lw_g (lw_at lw_m3 194 rfl) rfl
theorem q939 : (Jvm.Cond.laysFinal "ResourceLedger$HashTree" "ResourceLedger$HashTree" "asked" "LResourceLedger$HashTree$Fours;") ∈ lw_all := lw_g (lw_at lw_m3 195 rfl) rfl
theorem q940 : (Jvm.Cond.soleField "ResourceLedger$HashTree" "asked") ∈ lw_all := lw_g (lw_at lw_m3 196 rfl) rfl
theorem q941 : (Jvm.Cond.laysFinal "ResourceLedger$HashTree" "ResourceLedger$HashTree" "waiting" "[I") ∈ lw_all := lw_g (lw_at lw_m3 197 rfl) rfl
theorem q942 : (Jvm.Cond.soleField "ResourceLedger$HashTree" "waiting") ∈ lw_all := lw_g (lw_at lw_m3 198 rfl) rfl
theorem q943 : (Jvm.Cond.laysFinal "ResourceLedger$HashTree" "ResourceLedger$HashTree" "zero" "LResourceLedger$HashTree$Fours;") ∈ lw_all := lw_g (lw_at lw_m3 199 rfl) rfl
theorem q944 : (Jvm.Cond.soleField "ResourceLedger$HashTree" "zero") ∈ lw_all := lw_g (lw_at lw_m3 200 rfl) rfl
theorem q945 : (Jvm.Cond.superclass "ResourceLedger$HashTree" "java/lang/Object") ∈ lw_all := lw_g (lw_at lw_m3 201 rfl) rfl
theorem q2212 : (Jvm.Cond.instanceMethod ({ cls := "ResourceLedger$HashTree", name := "begin", desc := "()V" } : Jvm.MethodName)) ∈ lw_all := lw_g (lw_at lw_m9 28 rfl) rfl
theorem q2213 : (Jvm.Cond.selects "ResourceLedger$HashTree" ({ cls := "ResourceLedger$HashTree", name := "begin", desc := "()V" } : Jvm.MethodName) ({ cls := "ResourceLedger$HashTree", name := "begin", desc := "()V" } : Jvm.MethodName)) ∈ lw_all := lw_g (lw_at lw_m9 29 rfl) rfl
theorem q2214 : (Jvm.Cond.code ({ cls := "ResourceLedger$HashTree", name := "begin", desc := "()V" } : Jvm.MethodName) prog_10_method_2_code (1 : Nat) (Option.none : Option Jvm.ClassFile.FieldType)) ∈ lw_all := lw_g (lw_at lw_m9 30 rfl) rfl
theorem q2228 : (Jvm.Cond.instanceMethod ({ cls := "ResourceLedger$HashTree", name := "key", desc := "(JJJJ)V" } : Jvm.MethodName)) ∈ lw_all := lw_g (lw_at lw_m9 44 rfl) rfl
theorem q2229 : (Jvm.Cond.selects "ResourceLedger$HashTree" ({ cls := "ResourceLedger$HashTree", name := "key", desc := "(JJJJ)V" } : Jvm.MethodName) ({ cls := "ResourceLedger$HashTree", name := "key", desc := "(JJJJ)V" } : Jvm.MethodName)) ∈ lw_all := lw_g (lw_at lw_m9 45 rfl) rfl
theorem q2230 : (Jvm.Cond.code ({ cls := "ResourceLedger$HashTree", name := "key", desc := "(JJJJ)V" } : Jvm.MethodName) prog_10_method_5_code (9 : Nat) (Option.none : Option Jvm.ClassFile.FieldType)) ∈ lw_all := lw_g (lw_at lw_m9 46 rfl) rfl
theorem q2231 : (Jvm.Cond.methodLink "ResourceLedger$HashTree" (77 : Nat) ({ cls := "ResourceLedger$HashTree$Fours", name := "set", desc := "(IJJJJ)V" } : Jvm.MethodName)) ∈ lw_all := lw_g (lw_at lw_m9 47 rfl) rfl
theorem q2240 : (Jvm.Cond.instanceMethod ({ cls := "ResourceLedger$HashTree", name := "set", desc := "(JJJJ)I" } : Jvm.MethodName)) ∈ lw_all := lw_g (lw_at lw_m9 56 rfl) rfl
theorem q2241 : (Jvm.Cond.selects "ResourceLedger$HashTree" ({ cls := "ResourceLedger$HashTree", name := "set", desc := "(JJJJ)I" } : Jvm.MethodName) ({ cls := "ResourceLedger$HashTree", name := "set", desc := "(JJJJ)I" } : Jvm.MethodName)) ∈ lw_all := lw_g (lw_at lw_m9 57 rfl) rfl
theorem q2242 : (Jvm.Cond.code ({ cls := "ResourceLedger$HashTree", name := "set", desc := "(JJJJ)I" } : Jvm.MethodName) prog_10_method_6_code (11 : Nat) (Option.some Jvm.ClassFile.FieldType.int)) ∈ lw_all := lw_g (lw_at lw_m9 58 rfl) rfl
theorem q2243 : (Jvm.Cond.methodLink "ResourceLedger$HashTree" (81 : Nat) ({ cls := "ResourceLedger$HashTree", name := "find", desc := "()I" } : Jvm.MethodName)) ∈ lw_all := lw_g (lw_at lw_m9 59 rfl) rfl
theorem q2244 : (Jvm.Cond.privateMethod ({ cls := "ResourceLedger$HashTree", name := "find", desc := "()I" } : Jvm.MethodName)) ∈ lw_tbl := lw_at lw_m9 60 rfl
theorem q2245 : (Jvm.Cond.instanceMethod ({ cls := "ResourceLedger$HashTree", name := "find", desc := "()I" } : Jvm.MethodName)) ∈ lw_all := lw_g (lw_at lw_m9 61 rfl) rfl
theorem q2246 : (Jvm.Cond.code ({ cls := "ResourceLedger$HashTree", name := "find", desc := "()I" } : Jvm.MethodName) prog_10_method_4_code (2 : Nat) (Option.some Jvm.ClassFile.FieldType.int)) ∈ lw_all := lw_g (lw_at lw_m9 62 rfl) rfl
theorem q2247 : (Jvm.Cond.methodLink "ResourceLedger$HashTree" (66 : Nat) ({ cls := "ResourceLedger$HashTree", name := "near", desc := "()I" } : Jvm.MethodName)) ∈ lw_all := lw_g (lw_at lw_m9 63 rfl) rfl
theorem q2248 : (Jvm.Cond.privateMethod ({ cls := "ResourceLedger$HashTree", name := "near", desc := "()I" } : Jvm.MethodName)) ∈ lw_tbl := lw_at lw_m9 64 rfl
theorem q2249 : (Jvm.Cond.instanceMethod ({ cls := "ResourceLedger$HashTree", name := "near", desc := "()I" } : Jvm.MethodName)) ∈ lw_all := lw_g (lw_at lw_m9 65 rfl) rfl
theorem q2250 : (Jvm.Cond.code ({ cls := "ResourceLedger$HashTree", name := "near", desc := "()I" } : Jvm.MethodName) prog_10_method_3_code (2 : Nat) (Option.some Jvm.ClassFile.FieldType.int)) ∈ lw_all := lw_g (lw_at lw_m9 66 rfl) rfl
theorem q2251 : (Jvm.Cond.methodLink "ResourceLedger$HashTree" (52 : Nat) ({ cls := "ResourceLedger$HashTree$Nodes", name := "isLeaf", desc := "(I)Z" } : Jvm.MethodName)) ∈ lw_all := lw_g (lw_at lw_m9 67 rfl) rfl
theorem q2255 : (Jvm.Cond.methodLink "ResourceLedger$HashTree" (59 : Nat) ({ cls := "ResourceLedger$HashTree$Fours", name := "bit", desc := "(II)I" } : Jvm.MethodName)) ∈ lw_all := lw_g (lw_at lw_m9 71 rfl) rfl
theorem q2259 : (Jvm.Cond.methodLink "ResourceLedger$HashTree" (63 : Nat) ({ cls := "ResourceLedger$HashTree$Nodes", name := "child", desc := "(II)I" } : Jvm.MethodName)) ∈ lw_all := lw_g (lw_at lw_m9 75 rfl) rfl
theorem q2263 : (Jvm.Cond.methodLink "ResourceLedger$HashTree" (73 : Nat) ({ cls := "ResourceLedger$HashTree$Fours", name := "isSame", desc := "(ILResourceLedger$HashTree$Fours;I)Z" } : Jvm.MethodName)) ∈ lw_all := lw_g (lw_at lw_m9 79 rfl) rfl
theorem q2267 : (Jvm.Cond.methodLink "ResourceLedger$HashTree" (84 : Nat) ({ cls := "ResourceLedger$HashTree", name := "insert", desc := "()I" } : Jvm.MethodName)) ∈ lw_all := lw_g (lw_at lw_m9 83 rfl) rfl
theorem q2268 : (Jvm.Cond.privateMethod ({ cls := "ResourceLedger$HashTree", name := "insert", desc := "()I" } : Jvm.MethodName)) ∈ lw_tbl := lw_at lw_m9 84 rfl
theorem q2269 : (Jvm.Cond.instanceMethod ({ cls := "ResourceLedger$HashTree", name := "insert", desc := "()I" } : Jvm.MethodName)) ∈ lw_all := lw_g (lw_at lw_m9 85 rfl) rfl
theorem q2270 : (Jvm.Cond.code ({ cls := "ResourceLedger$HashTree", name := "insert", desc := "()I" } : Jvm.MethodName) prog_10_method_7_code (8 : Nat) (Option.some Jvm.ClassFile.FieldType.int)) ∈ lw_all := lw_g (lw_at lw_m9 86 rfl) rfl
theorem q2271 : (Jvm.Cond.methodLink "ResourceLedger$HashTree" (94 : Nat) ({ cls := "ResourceLedger$HashTree$Nodes", name := "make", desc := "(II)I" } : Jvm.MethodName)) ∈ lw_all := lw_g (lw_at lw_m9 87 rfl) rfl
theorem q2275 : (Jvm.Cond.methodLink "ResourceLedger$HashTree" (97 : Nat) ({ cls := "ResourceLedger$HashTree$Fours", name := "copy", desc := "(ILResourceLedger$HashTree$Fours;I)V" } : Jvm.MethodName)) ∈ lw_all := lw_g (lw_at lw_m9 91 rfl) rfl
theorem q2279 : (Jvm.Cond.methodLink "ResourceLedger$HashTree" (101 : Nat) ({ cls := "ResourceLedger$HashTree$Fours", name := "fork", desc := "(ILResourceLedger$HashTree$Fours;I)I" } : Jvm.MethodName)) ∈ lw_all := lw_g (lw_at lw_m9 95 rfl) rfl
theorem q2284 : (Jvm.Cond.methodLink "ResourceLedger$HashTree" (108 : Nat) ({ cls := "ResourceLedger$HashTree$Nodes", name := "setChild", desc := "(III)V" } : Jvm.MethodName)) ∈ lw_all := lw_g (lw_at lw_m9 100 rfl) rfl
theorem q2288 : (Jvm.Cond.methodLink "ResourceLedger$HashTree" (90 : Nat) ({ cls := "ResourceLedger$HashTree$Nodes", name := "touch", desc := "(I)V" } : Jvm.MethodName)) ∈ lw_all := lw_g (lw_at lw_m9 104 rfl) rfl
theorem q2293 : (Jvm.Cond.instanceMethod ({ cls := "ResourceLedger$HashTree", name := "root", desc := "(I)J" } : Jvm.MethodName)) ∈ lw_all := lw_g (lw_at lw_m9 109 rfl) rfl
theorem q2294 : (Jvm.Cond.selects "ResourceLedger$HashTree" ({ cls := "ResourceLedger$HashTree", name := "root", desc := "(I)J" } : Jvm.MethodName) ({ cls := "ResourceLedger$HashTree", name := "root", desc := "(I)J" } : Jvm.MethodName)) ∈ lw_all := lw_g (lw_at lw_m9 110 rfl) rfl
theorem q2295 : (Jvm.Cond.code ({ cls := "ResourceLedger$HashTree", name := "root", desc := "(I)J" } : Jvm.MethodName) prog_10_method_13_code (2 : Nat) (Option.some Jvm.ClassFile.FieldType.long)) ∈ lw_all := lw_g (lw_at lw_m9 111 rfl) rfl
theorem q2296 : (Jvm.Cond.methodLink "ResourceLedger$HashTree" (164 : Nat) ({ cls := "ResourceLedger$HashTree", name := "isNumber", desc := "(I)Z" } : Jvm.MethodName)) ∈ lw_all := lw_g (lw_at lw_m9 112 rfl) rfl
theorem q2297 : (Jvm.Cond.static ({ cls := "ResourceLedger$HashTree", name := "isNumber", desc := "(I)Z" } : Jvm.MethodName)) ∈ lw_all := lw_g (lw_at lw_m9 113 rfl) rfl
theorem q2298 : (Jvm.Cond.code ({ cls := "ResourceLedger$HashTree", name := "isNumber", desc := "(I)Z" } : Jvm.MethodName) prog_10_method_8_code (1 : Nat) (Option.some Jvm.ClassFile.FieldType.boolean)) ∈ lw_all := lw_g (lw_at lw_m9 114 rfl) rfl
theorem q2299 : (Jvm.Cond.methodLink "ResourceLedger$HashTree" (167 : Nat) ({ cls := "ResourceLedger$HashTree", name := "refresh", desc := "(I)V" } : Jvm.MethodName)) ∈ lw_all := lw_g (lw_at lw_m9 115 rfl) rfl
theorem q2300 : (Jvm.Cond.privateMethod ({ cls := "ResourceLedger$HashTree", name := "refresh", desc := "(I)V" } : Jvm.MethodName)) ∈ lw_tbl := lw_at lw_m9 116 rfl
theorem q2301 : (Jvm.Cond.instanceMethod ({ cls := "ResourceLedger$HashTree", name := "refresh", desc := "(I)V" } : Jvm.MethodName)) ∈ lw_all := lw_g (lw_at lw_m9 117 rfl) rfl
theorem q2302 : (Jvm.Cond.code ({ cls := "ResourceLedger$HashTree", name := "refresh", desc := "(I)V" } : Jvm.MethodName) prog_10_method_11_code (6 : Nat) (Option.none : Option Jvm.ClassFile.FieldType)) ∈ lw_all := lw_g (lw_at lw_m9 118 rfl) rfl
theorem q2303 : (Jvm.Cond.methodLink "ResourceLedger$HashTree" (136 : Nat) ({ cls := "ResourceLedger$HashTree", name := "hash", desc := "(ILResourceLedger$HashTree$Fours;ILResourceLedger$HashTree$Fours;ILResourceLedger$HashTree$Fours;I)V" } : Jvm.MethodName)) ∈ lw_all := lw_g (lw_at lw_m9 119 rfl) rfl
theorem q2304 : (Jvm.Cond.privateMethod ({ cls := "ResourceLedger$HashTree", name := "hash", desc := "(ILResourceLedger$HashTree$Fours;ILResourceLedger$HashTree$Fours;ILResourceLedger$HashTree$Fours;I)V" } : Jvm.MethodName)) ∈ lw_tbl := lw_at lw_m9 120 rfl
theorem q2305 : (Jvm.Cond.instanceMethod ({ cls := "ResourceLedger$HashTree", name := "hash", desc := "(ILResourceLedger$HashTree$Fours;ILResourceLedger$HashTree$Fours;ILResourceLedger$HashTree$Fours;I)V" } : Jvm.MethodName)) ∈ lw_all := lw_g (lw_at lw_m9 121 rfl) rfl
theorem q2306 : (Jvm.Cond.code ({ cls := "ResourceLedger$HashTree", name := "hash", desc := "(ILResourceLedger$HashTree$Fours;ILResourceLedger$HashTree$Fours;ILResourceLedger$HashTree$Fours;I)V" } : Jvm.MethodName) prog_10_method_9_code (9 : Nat) (Option.none : Option Jvm.ClassFile.FieldType)) ∈ lw_all := lw_g (lw_at lw_m9 122 rfl) rfl
theorem q2307 : (Jvm.Cond.methodLink "ResourceLedger$HashTree" (112 : Nat) ({ cls := "ResourceLedger$HashTree$Digest", name := "begin", desc := "()V" } : Jvm.MethodName)) ∈ lw_all := lw_g (lw_at lw_m9 123 rfl) rfl
theorem q2308 : (Jvm.Cond.methodLink "ResourceLedger$HashTree" (115 : Nat) ({ cls := "ResourceLedger$HashTree$Digest", name := "add", desc := "(I)V" } : Jvm.MethodName)) ∈ lw_all := lw_g (lw_at lw_m9 124 rfl) rfl
theorem q2309 : (Jvm.Cond.methodLink "ResourceLedger$HashTree" (118 : Nat) ({ cls := "ResourceLedger$HashTree$Fours", name := "get", desc := "(II)J" } : Jvm.MethodName)) ∈ lw_all := lw_g (lw_at lw_m9 125 rfl) rfl
theorem q2313 : (Jvm.Cond.methodLink "ResourceLedger$HashTree" (122 : Nat) ({ cls := "ResourceLedger$HashTree$Digest", name := "addLong", desc := "(J)V" } : Jvm.MethodName)) ∈ lw_all := lw_g (lw_at lw_m9 129 rfl) rfl
theorem q2314 : (Jvm.Cond.methodLink "ResourceLedger$HashTree" (126 : Nat) ({ cls := "ResourceLedger$HashTree$Digest", name := "end", desc := "()V" } : Jvm.MethodName)) ∈ lw_all := lw_g (lw_at lw_m9 130 rfl) rfl
theorem q2315 : (Jvm.Cond.methodLink "ResourceLedger$HashTree" (129 : Nat) ({ cls := "ResourceLedger$HashTree$Digest", name := "number", desc := "(I)J" } : Jvm.MethodName)) ∈ lw_all := lw_g (lw_at lw_m9 131 rfl) rfl
theorem q2316 : (Jvm.Cond.methodLink "ResourceLedger$HashTree" (150 : Nat) ({ cls := "ResourceLedger$HashTree", name := "settle", desc := "(II)I" } : Jvm.MethodName)) ∈ lw_all := lw_g (lw_at lw_m9 132 rfl) rfl
theorem q2317 : (Jvm.Cond.privateMethod ({ cls := "ResourceLedger$HashTree", name := "settle", desc := "(II)I" } : Jvm.MethodName)) ∈ lw_tbl := lw_at lw_m9 133 rfl
theorem q2318 : (Jvm.Cond.instanceMethod ({ cls := "ResourceLedger$HashTree", name := "settle", desc := "(II)I" } : Jvm.MethodName)) ∈ lw_all := lw_g (lw_at lw_m9 134 rfl) rfl
theorem q2319 : (Jvm.Cond.code ({ cls := "ResourceLedger$HashTree", name := "settle", desc := "(II)I" } : Jvm.MethodName) prog_10_method_12_code (3 : Nat) (Option.some Jvm.ClassFile.FieldType.int)) ∈ lw_all := lw_g (lw_at lw_m9 135 rfl) rfl
theorem q2320 : (Jvm.Cond.methodLink "ResourceLedger$HashTree" (156 : Nat) ({ cls := "ResourceLedger$HashTree$Nodes", name := "topLevel", desc := "(I)I" } : Jvm.MethodName)) ∈ lw_all := lw_g (lw_at lw_m9 136 rfl) rfl
theorem q2324 : (Jvm.Cond.methodLink "ResourceLedger$HashTree" (160 : Nat) ({ cls := "ResourceLedger$HashTree", name := "raise", desc := "(IILResourceLedger$HashTree$Fours;I)V" } : Jvm.MethodName)) ∈ lw_all := lw_g (lw_at lw_m9 140 rfl) rfl
theorem q2325 : (Jvm.Cond.privateMethod ({ cls := "ResourceLedger$HashTree", name := "raise", desc := "(IILResourceLedger$HashTree$Fours;I)V" } : Jvm.MethodName)) ∈ lw_tbl := lw_at lw_m9 141 rfl
theorem q2326 : (Jvm.Cond.instanceMethod ({ cls := "ResourceLedger$HashTree", name := "raise", desc := "(IILResourceLedger$HashTree$Fours;I)V" } : Jvm.MethodName)) ∈ lw_all := lw_g (lw_at lw_m9 142 rfl) rfl
theorem q2327 : (Jvm.Cond.code ({ cls := "ResourceLedger$HashTree", name := "raise", desc := "(IILResourceLedger$HashTree$Fours;I)V" } : Jvm.MethodName) prog_10_method_10_code (6 : Nat) (Option.none : Option Jvm.ClassFile.FieldType)) ∈ lw_all := lw_g (lw_at lw_m9 143 rfl) rfl
theorem in_X15 : ∀ w ∈ wsX150, w ∈ lw_all := lw_in wsX150 [931, 933, 935, 937, 939, 941, 943] (by decide +kernel) (by decide +kernel)
end
section
-- ResourceLedger$HashTree$Digest
set_option maxRecDepth 100000
def RX16 : String := "ResourceLedger$HashTree$Digest"
def TX16 : u_T := fun k => match k with
  | 0 => ("ResourceLedger$HashTree$Digest", "block", "[B", true)
  | 1 => ("ResourceLedger$HashTree$Digest", "w", "[I", true)
  | 2 => ("ResourceLedger$HashTree$Digest", "words", "[I", true)
  | 3 => ("ResourceLedger$HashTree$Digest", "work", "[I", true)
  | 4 => ("ResourceLedger$HashTree$Digest", "size", "I", false)
  | _ => ("ResourceLedger$HashTree$Digest", "all", "J", false)
def tyX16 : Nat → FieldType := fun k => match k with
  | 0 => .array .byte
  | 1 => .array .int
  | 2 => .array .int
  | 3 => .array .int
  | 4 => .int
  | _ => .long
abbrev wsX160 : List Cond := u_ws RX16 TX16 6
theorem nmX16 : ∀ a, a < 6 → ∀ b, b < 6 → a ≠ b → (TX16 a).2.1 ≠ (TX16 b).2.1 := by decide +kernel
theorem tyX16_ok : ∀ k, k < 6 → parseFieldDescriptor (TX16 k).2.2.1 = some (tyX16 k) := by decide +kernel
abbrev cX16_init : ByteArray := prog_11_method_1_code
def yX16_init : MethodName := ⟨RX16, "<init>", "()V"⟩
abbrev cX16_begin : ByteArray := prog_11_method_2_code
def yX16_begin : MethodName := ⟨RX16, "begin", "()V"⟩
abbrev cX16_add : ByteArray := prog_11_method_3_code
def yX16_add : MethodName := ⟨RX16, "add", "(I)V"⟩
abbrev cX16_compress : ByteArray := prog_11_method_6_code
def yX16_compress : MethodName := ⟨RX16, "compress", "()V"⟩
abbrev cX16_expand : ByteArray := prog_11_method_5_code
def yX16_expand : MethodName := ⟨RX16, "expand", "()V"⟩
abbrev cX16_round : ByteArray := prog_11_method_7_code
def yX16_round : MethodName := ⟨RX16, "round", "(I)V"⟩
abbrev cX16_end : ByteArray := prog_11_method_8_code
def yX16_end : MethodName := ⟨RX16, "end", "()V"⟩
abbrev cX16_addLong : ByteArray := prog_11_method_4_code
def yX16_addLong : MethodName := ⟨RX16, "addLong", "(J)V"⟩
abbrev cX16_number : ByteArray := prog_11_method_9_code
def yX16_number : MethodName := ⟨RX16, "number", "(I)J"⟩
theorem q285 : (Jvm.Cond.initialized "ResourceLedger$HashTree$Digest") ∈ lw_all := lw_g (lw_at lw_m1 21 rfl) rfl
theorem q836 : (Jvm.Cond.instantiable "ResourceLedger$HashTree$Digest" (6 : Nat)) ∈ lw_all := lw_g (lw_at lw_m3 92 rfl) rfl
theorem q838 : (Jvm.Cond.instanceMethod ({ cls := "ResourceLedger$HashTree$Digest", name := "<init>", desc := "()V" } : Jvm.MethodName)) ∈ lw_all := lw_g (lw_at lw_m3 94 rfl) rfl
theorem q839 : (Jvm.Cond.code ({ cls := "ResourceLedger$HashTree$Digest", name := "<init>", desc := "()V" } : Jvm.MethodName) prog_11_method_1_code (1 : Nat) (Option.none : Option Jvm.ClassFile.FieldType)) ∈ lw_all := lw_g (lw_at lw_m3 95 rfl) rfl
theorem q840 : (Jvm.Cond.methodLink "ResourceLedger$HashTree$Digest" (1 : Nat) ({ cls := "java/lang/Object", name := "<init>", desc := "()V" } : Jvm.MethodName)) ∈ lw_all := lw_g (lw_at lw_m3 96 rfl) rfl
theorem q841 : (Jvm.Cond.fieldLink "ResourceLedger$HashTree$Digest" (7 : Nat) "ResourceLedger$HashTree$Digest" "block" "[B") ∈ lw_all := lw_g (lw_at lw_m3 97 rfl) rfl
theorem q842 : (Jvm.Cond.fieldLink "ResourceLedger$HashTree$Digest" (13 : Nat) "ResourceLedger$HashTree$Digest" "w" "[I") ∈ lw_all := lw_g (lw_at lw_m3 98 rfl) rfl
theorem q843 : (Jvm.Cond.fieldLink "ResourceLedger$HashTree$Digest" (17 : Nat) "ResourceLedger$HashTree$Digest" "words" "[I") ∈ lw_all := lw_g (lw_at lw_m3 99 rfl) rfl
theorem q844 : (Jvm.Cond.fieldLink "ResourceLedger$HashTree$Digest" (20 : Nat) "ResourceLedger$HashTree$Digest" "work" "[I") ∈ lw_all := lw_g (lw_at lw_m3 100 rfl) rfl
theorem q845 : (Jvm.Cond.fieldLink "ResourceLedger$HashTree$Digest" (31 : Nat) "ResourceLedger$HashTree$Digest" "size" "I") ∈ lw_all := lw_g (lw_at lw_m3 101 rfl) rfl
theorem q846 : (Jvm.Cond.fieldLink "ResourceLedger$HashTree$Digest" (35 : Nat) "ResourceLedger$HashTree$Digest" "all" "J") ∈ lw_all := lw_g (lw_at lw_m3 102 rfl) rfl
theorem q847 : (Jvm.Cond.laysFinal "ResourceLedger$HashTree$Digest" "ResourceLedger$HashTree$Digest" "block" "[B") ∈ lw_all := lw_g (lw_at lw_m3 103 rfl) rfl
theorem q848 : (Jvm.Cond.soleField "ResourceLedger$HashTree$Digest" "block") ∈ lw_all := lw_g (lw_at lw_m3 104 rfl) rfl
theorem q849 : (Jvm.Cond.laysFinal "ResourceLedger$HashTree$Digest" "ResourceLedger$HashTree$Digest" "w" "[I") ∈ lw_all := lw_g (lw_at lw_m3 105 rfl) rfl
theorem q850 : (Jvm.Cond.soleField "ResourceLedger$HashTree$Digest" "w") ∈ lw_all := lw_g (lw_at lw_m3 106 rfl) rfl
theorem q851 : (Jvm.Cond.laysFinal "ResourceLedger$HashTree$Digest" "ResourceLedger$HashTree$Digest" "words" "[I") ∈ lw_all := lw_g (lw_at lw_m3 107 rfl) rfl
theorem q852 : (Jvm.Cond.soleField "ResourceLedger$HashTree$Digest" "words") ∈ lw_all := lw_g (lw_at lw_m3 108 rfl) rfl
theorem q853 : (Jvm.Cond.laysFinal "ResourceLedger$HashTree$Digest" "ResourceLedger$HashTree$Digest" "work" "[I") ∈ lw_all := lw_g (lw_at lw_m3 109 rfl) rfl
theorem q854 : (Jvm.Cond.soleField "ResourceLedger$HashTree$Digest" "work") ∈ lw_all := lw_g (lw_at lw_m3 110 rfl) rfl
theorem q855 : (Jvm.Cond.lays "ResourceLedger$HashTree$Digest" "ResourceLedger$HashTree$Digest" "size" "I") ∈ lw_all := lw_g (lw_at lw_m3 111 rfl) rfl
theorem q856 : (Jvm.Cond.soleField "ResourceLedger$HashTree$Digest" "size") ∈ lw_all := lw_g (lw_at lw_m3 112 rfl) rfl
theorem q857 : (Jvm.Cond.lays "ResourceLedger$HashTree$Digest" "ResourceLedger$HashTree$Digest" "all" "J") ∈ lw_all := lw_g (lw_at lw_m3 113 rfl) rfl
theorem q858 : (Jvm.Cond.soleField "ResourceLedger$HashTree$Digest" "all") ∈ lw_all := lw_g (lw_at lw_m3 114 rfl) rfl
theorem q859 : (Jvm.Cond.superclass "ResourceLedger$HashTree$Digest" "java/lang/Object") ∈ lw_all := lw_g (lw_at lw_m3 115 rfl) rfl
theorem q1749 : (Jvm.Cond.instanceMethod ({ cls := "ResourceLedger$HashTree$Digest", name := "begin", desc := "()V" } : Jvm.MethodName)) ∈ lw_all := lw_g (lw_at lw_m7 45 rfl) rfl
theorem q1750 : (Jvm.Cond.selects "ResourceLedger$HashTree$Digest" ({ cls := "ResourceLedger$HashTree$Digest", name := "begin", desc := "()V" } : Jvm.MethodName) ({ cls := "ResourceLedger$HashTree$Digest", name := "begin", desc := "()V" } : Jvm.MethodName)) ∈ lw_all := lw_g (lw_at lw_m7 46 rfl) rfl
theorem q1751 : (Jvm.Cond.code ({ cls := "ResourceLedger$HashTree$Digest", name := "begin", desc := "()V" } : Jvm.MethodName) prog_11_method_2_code (1 : Nat) (Option.none : Option Jvm.ClassFile.FieldType)) ∈ lw_all := lw_g (lw_at lw_m7 47 rfl) rfl
theorem q1752 : (Jvm.Cond.constant "ResourceLedger$HashTree$Digest" (23 : Nat) (1779033703 : Int32)) ∈ lw_all := lw_g (lw_at lw_m7 48 rfl) rfl
theorem q1753 : (Jvm.Cond.constant "ResourceLedger$HashTree$Digest" (24 : Nat) (-1150833019 : Int32)) ∈ lw_all := lw_g (lw_at lw_m7 49 rfl) rfl
theorem q1754 : (Jvm.Cond.constant "ResourceLedger$HashTree$Digest" (25 : Nat) (1013904242 : Int32)) ∈ lw_all := lw_g (lw_at lw_m7 50 rfl) rfl
theorem q1755 : (Jvm.Cond.constant "ResourceLedger$HashTree$Digest" (26 : Nat) (-1521486534 : Int32)) ∈ lw_all := lw_g (lw_at lw_m7 51 rfl) rfl
theorem q1756 : (Jvm.Cond.constant "ResourceLedger$HashTree$Digest" (27 : Nat) (1359893119 : Int32)) ∈ lw_all := lw_g (lw_at lw_m7 52 rfl) rfl
theorem q1757 : (Jvm.Cond.constant "ResourceLedger$HashTree$Digest" (28 : Nat) (-1694144372 : Int32)) ∈ lw_all := lw_g (lw_at lw_m7 53 rfl) rfl
theorem q1758 : (Jvm.Cond.constant "ResourceLedger$HashTree$Digest" (29 : Nat) (528734635 : Int32)) ∈ lw_all := lw_g (lw_at lw_m7 54 rfl) rfl
theorem q1759 : (Jvm.Cond.constant "ResourceLedger$HashTree$Digest" (30 : Nat) (1541459225 : Int32)) ∈ lw_all := lw_g (lw_at lw_m7 55 rfl) rfl
theorem q1761 : (Jvm.Cond.instanceMethod ({ cls := "ResourceLedger$HashTree$Digest", name := "add", desc := "(I)V" } : Jvm.MethodName)) ∈ lw_all := lw_g (lw_at lw_m7 57 rfl) rfl
theorem q1762 : (Jvm.Cond.selects "ResourceLedger$HashTree$Digest" ({ cls := "ResourceLedger$HashTree$Digest", name := "add", desc := "(I)V" } : Jvm.MethodName) ({ cls := "ResourceLedger$HashTree$Digest", name := "add", desc := "(I)V" } : Jvm.MethodName)) ∈ lw_all := lw_g (lw_at lw_m7 58 rfl) rfl
theorem q1763 : (Jvm.Cond.code ({ cls := "ResourceLedger$HashTree$Digest", name := "add", desc := "(I)V" } : Jvm.MethodName) prog_11_method_3_code (2 : Nat) (Option.none : Option Jvm.ClassFile.FieldType)) ∈ lw_all := lw_g (lw_at lw_m7 59 rfl) rfl
theorem q1764 : (Jvm.Cond.methodLink "ResourceLedger$HashTree$Digest" (39 : Nat) ({ cls := "ResourceLedger$HashTree$Digest", name := "compress", desc := "()V" } : Jvm.MethodName)) ∈ lw_all := lw_g (lw_at lw_m7 60 rfl) rfl
theorem q1765 : (Jvm.Cond.privateMethod ({ cls := "ResourceLedger$HashTree$Digest", name := "compress", desc := "()V" } : Jvm.MethodName)) ∈ lw_tbl := lw_at lw_m7 61 rfl
theorem q1766 : (Jvm.Cond.instanceMethod ({ cls := "ResourceLedger$HashTree$Digest", name := "compress", desc := "()V" } : Jvm.MethodName)) ∈ lw_all := lw_g (lw_at lw_m7 62 rfl) rfl
theorem q1767 : (Jvm.Cond.code ({ cls := "ResourceLedger$HashTree$Digest", name := "compress", desc := "()V" } : Jvm.MethodName) prog_11_method_6_code (2 : Nat) (Option.none : Option Jvm.ClassFile.FieldType)) ∈ lw_all := lw_g (lw_at lw_m7 63 rfl) rfl
theorem q1768 : (Jvm.Cond.methodLink "ResourceLedger$HashTree$Digest" (52 : Nat) ({ cls := "ResourceLedger$HashTree$Digest", name := "expand", desc := "()V" } : Jvm.MethodName)) ∈ lw_all := lw_g (lw_at lw_m7 64 rfl) rfl
theorem q1769 : (Jvm.Cond.privateMethod ({ cls := "ResourceLedger$HashTree$Digest", name := "expand", desc := "()V" } : Jvm.MethodName)) ∈ lw_tbl := lw_at lw_m7 65 rfl
theorem q1770 : (Jvm.Cond.instanceMethod ({ cls := "ResourceLedger$HashTree$Digest", name := "expand", desc := "()V" } : Jvm.MethodName)) ∈ lw_all := lw_g (lw_at lw_m7 66 rfl) rfl
theorem q1771 : (Jvm.Cond.code ({ cls := "ResourceLedger$HashTree$Digest", name := "expand", desc := "()V" } : Jvm.MethodName) prog_11_method_5_code (4 : Nat) (Option.none : Option Jvm.ClassFile.FieldType)) ∈ lw_all := lw_g (lw_at lw_m7 67 rfl) rfl
theorem q1772 : (Jvm.Cond.methodLink "ResourceLedger$HashTree$Digest" (46 : Nat) ({ cls := "java/lang/Integer", name := "rotateRight", desc := "(II)I" } : Jvm.MethodName)) ∈ lw_all := lw_g (lw_at lw_m7 68 rfl) rfl
theorem q1775 : (Jvm.Cond.methodLink "ResourceLedger$HashTree$Digest" (55 : Nat) ({ cls := "ResourceLedger$HashTree$Digest", name := "round", desc := "(I)V" } : Jvm.MethodName)) ∈ lw_all := lw_g (lw_at lw_m7 71 rfl) rfl
theorem q1776 : (Jvm.Cond.privateMethod ({ cls := "ResourceLedger$HashTree$Digest", name := "round", desc := "(I)V" } : Jvm.MethodName)) ∈ lw_tbl := lw_at lw_m7 72 rfl
theorem q1777 : (Jvm.Cond.instanceMethod ({ cls := "ResourceLedger$HashTree$Digest", name := "round", desc := "(I)V" } : Jvm.MethodName)) ∈ lw_all := lw_g (lw_at lw_m7 73 rfl) rfl
theorem q1778 : (Jvm.Cond.code ({ cls := "ResourceLedger$HashTree$Digest", name := "round", desc := "(I)V" } : Jvm.MethodName) prog_11_method_7_code (7 : Nat) (Option.none : Option Jvm.ClassFile.FieldType)) ∈ lw_all := lw_g (lw_at lw_m7 74 rfl) rfl
theorem q1779 : (Jvm.Cond.fieldLink "ResourceLedger$HashTree$Digest" (58 : Nat) "ResourceLedger$HashTree$Digest" "ROUNDS" "[I") ∈ lw_all := lw_g (lw_at lw_m7 75 rfl) rfl
theorem q1780 : (Jvm.Cond.laysStatic "ResourceLedger$HashTree$Digest" "ROUNDS" "[I") ∈ lw_tbl := lw_at lw_m7 76 rfl
theorem q1782 : (Jvm.Cond.instanceMethod ({ cls := "ResourceLedger$HashTree$Digest", name := "end", desc := "()V" } : Jvm.MethodName)) ∈ lw_all := lw_g (lw_at lw_m7 78 rfl) rfl
theorem q1783 : (Jvm.Cond.selects "ResourceLedger$HashTree$Digest" ({ cls := "ResourceLedger$HashTree$Digest", name := "end", desc := "()V" } : Jvm.MethodName) ({ cls := "ResourceLedger$HashTree$Digest", name := "end", desc := "()V" } : Jvm.MethodName)) ∈ lw_all := lw_g (lw_at lw_m7 79 rfl) rfl
theorem q1784 : (Jvm.Cond.code ({ cls := "ResourceLedger$HashTree$Digest", name := "end", desc := "()V" } : Jvm.MethodName) prog_11_method_8_code (3 : Nat) (Option.none : Option Jvm.ClassFile.FieldType)) ∈ lw_all := lw_g (lw_at lw_m7 80 rfl) rfl
theorem q1785 : (Jvm.Cond.constantLong "ResourceLedger$HashTree$Digest" (61 : Nat) (8 : Int64)) ∈ lw_all := lw_g (lw_at lw_m7 81 rfl) rfl
theorem q1786 : (Jvm.Cond.methodLink "ResourceLedger$HashTree$Digest" (42 : Nat) ({ cls := "ResourceLedger$HashTree$Digest", name := "add", desc := "(I)V" } : Jvm.MethodName)) ∈ lw_all := lw_g (lw_at lw_m7 82 rfl) rfl
theorem q1787 : (Jvm.Cond.methodLink "ResourceLedger$HashTree$Digest" (63 : Nat) ({ cls := "ResourceLedger$HashTree$Digest", name := "addLong", desc := "(J)V" } : Jvm.MethodName)) ∈ lw_all := lw_g (lw_at lw_m7 83 rfl) rfl
theorem q1788 : (Jvm.Cond.instanceMethod ({ cls := "ResourceLedger$HashTree$Digest", name := "addLong", desc := "(J)V" } : Jvm.MethodName)) ∈ lw_all := lw_g (lw_at lw_m7 84 rfl) rfl
theorem q1789 : (Jvm.Cond.selects "ResourceLedger$HashTree$Digest" ({ cls := "ResourceLedger$HashTree$Digest", name := "addLong", desc := "(J)V" } : Jvm.MethodName) ({ cls := "ResourceLedger$HashTree$Digest", name := "addLong", desc := "(J)V" } : Jvm.MethodName)) ∈ lw_all := lw_g (lw_at lw_m7 85 rfl) rfl
theorem q1790 : (Jvm.Cond.code ({ cls := "ResourceLedger$HashTree$Digest", name := "addLong", desc := "(J)V" } : Jvm.MethodName) prog_11_method_4_code (4 : Nat) (Option.none : Option Jvm.ClassFile.FieldType)) ∈ lw_all := lw_g (lw_at lw_m7 86 rfl) rfl
theorem q1792 : (Jvm.Cond.instanceMethod ({ cls := "ResourceLedger$HashTree$Digest", name := "number", desc := "(I)J" } : Jvm.MethodName)) ∈ lw_all := lw_g (lw_at lw_m7 88 rfl) rfl
theorem q1793 : (Jvm.Cond.selects "ResourceLedger$HashTree$Digest" ({ cls := "ResourceLedger$HashTree$Digest", name := "number", desc := "(I)J" } : Jvm.MethodName) ({ cls := "ResourceLedger$HashTree$Digest", name := "number", desc := "(I)J" } : Jvm.MethodName)) ∈ lw_all := lw_g (lw_at lw_m7 89 rfl) rfl
theorem q1794 : (Jvm.Cond.code ({ cls := "ResourceLedger$HashTree$Digest", name := "number", desc := "(I)J" } : Jvm.MethodName) prog_11_method_9_code (2 : Nat) (Option.some Jvm.ClassFile.FieldType.long)) ∈ lw_all := lw_g (lw_at lw_m7 90 rfl) rfl
theorem q1795 : (Jvm.Cond.constantLong "ResourceLedger$HashTree$Digest" (67 : Nat) (4294967295 : Int64)) ∈ lw_all := lw_g (lw_at lw_m7 91 rfl) rfl
theorem in_X16 : ∀ w ∈ wsX160, w ∈ lw_all := lw_in wsX160 [847, 849, 851, 853, 855, 857] (by decide +kernel) (by decide +kernel)
end
section
-- ResourceLedger$HashTree$Nodes
set_option maxRecDepth 100000
def RX17 : String := "ResourceLedger$HashTree$Nodes"
def TX17 : u_T := fun k => match k with
  | 0 => ("ResourceLedger$HashTree$Nodes", "keys", "LResourceLedger$HashTree$Fours;", true)
  | 1 => ("ResourceLedger$HashTree$Nodes", "values", "LResourceLedger$HashTree$Fours;", true)
  | 2 => ("ResourceLedger$HashTree$Nodes", "hashes", "LResourceLedger$HashTree$Fours;", true)
  | 3 => ("ResourceLedger$HashTree$Nodes", "tops", "LResourceLedger$HashTree$Fours;", true)
  | 4 => ("ResourceLedger$HashTree$Nodes", "levels", "[I", true)
  | 5 => ("ResourceLedger$HashTree$Nodes", "lefts", "[I", true)
  | 6 => ("ResourceLedger$HashTree$Nodes", "rights", "[I", true)
  | 7 => ("ResourceLedger$HashTree$Nodes", "aboves", "[I", true)
  | 8 => ("ResourceLedger$HashTree$Nodes", "fresh", "[Z", true)
  | 9 => ("ResourceLedger$HashTree$Nodes", "free", "I", false)
  | _ => ("ResourceLedger$HashTree$Nodes", "made", "I", false)
def tyX17 : Nat → FieldType := fun k => match k with
  | 0 => .object "ResourceLedger$HashTree$Fours"
  | 1 => .object "ResourceLedger$HashTree$Fours"
  | 2 => .object "ResourceLedger$HashTree$Fours"
  | 3 => .object "ResourceLedger$HashTree$Fours"
  | 4 => .array .int
  | 5 => .array .int
  | 6 => .array .int
  | 7 => .array .int
  | 8 => .array .boolean
  | 9 => .int
  | _ => .int
abbrev wsX170 : List Cond := u_ws RX17 TX17 11
theorem nmX17 : ∀ a, a < 11 → ∀ b, b < 11 → a ≠ b → (TX17 a).2.1 ≠ (TX17 b).2.1 := by decide +kernel
theorem tyX17_ok : ∀ k, k < 11 → parseFieldDescriptor (TX17 k).2.2.1 = some (tyX17 k) := by decide +kernel
abbrev cX17_init : ByteArray := prog_13_method_1_code
def yX17_init : MethodName := ⟨RX17, "<init>", "()V"⟩
abbrev cX17_isLeaf : ByteArray := prog_13_method_4_code
def yX17_isLeaf : MethodName := ⟨RX17, "isLeaf", "(I)Z"⟩
abbrev cX17_child : ByteArray := prog_13_method_5_code
def yX17_child : MethodName := ⟨RX17, "child", "(II)I"⟩
abbrev cX17_make : ByteArray := prog_13_method_2_code
def yX17_make : MethodName := ⟨RX17, "make", "(II)I"⟩
abbrev cX17_setChild : ByteArray := prog_13_method_6_code
def yX17_setChild : MethodName := ⟨RX17, "setChild", "(III)V"⟩
abbrev cX17_touch : ByteArray := prog_13_method_7_code
def yX17_touch : MethodName := ⟨RX17, "touch", "(I)V"⟩
abbrev cX17_topLevel : ByteArray := prog_13_method_8_code
def yX17_topLevel : MethodName := ⟨RX17, "topLevel", "(I)I"⟩
theorem q286 : (Jvm.Cond.initialized "ResourceLedger$HashTree$Nodes") ∈ lw_all := lw_g (lw_at lw_m1 22 rfl) rfl
theorem q861 : (Jvm.Cond.instantiable "ResourceLedger$HashTree$Nodes" (11 : Nat)) ∈ lw_all := lw_g (lw_at lw_m3 117 rfl) rfl
theorem q863 : (Jvm.Cond.instanceMethod ({ cls := "ResourceLedger$HashTree$Nodes", name := "<init>", desc := "()V" } : Jvm.MethodName)) ∈ lw_all := lw_g (lw_at lw_m3 119 rfl) rfl
theorem q864 : (Jvm.Cond.code ({ cls := "ResourceLedger$HashTree$Nodes", name := "<init>", desc := "()V" } : Jvm.MethodName) prog_13_method_1_code (1 : Nat) (Option.none : Option Jvm.ClassFile.FieldType)) ∈ lw_all := lw_g (lw_at lw_m3 120 rfl) rfl
theorem q865 : (Jvm.Cond.methodLink "ResourceLedger$HashTree$Nodes" (1 : Nat) ({ cls := "java/lang/Object", name := "<init>", desc := "()V" } : Jvm.MethodName)) ∈ lw_all := lw_g (lw_at lw_m3 121 rfl) rfl
theorem q866 : (Jvm.Cond.classLink "ResourceLedger$HashTree$Nodes" (7 : Nat) "ResourceLedger$HashTree$Fours") ∈ lw_all := lw_g (lw_at lw_m3 122 rfl) rfl
theorem q868 : (Jvm.Cond.methodLinkNest "ResourceLedger$HashTree$Nodes" (9 : Nat) ({ cls := "ResourceLedger$HashTree$Fours", name := "<init>", desc := "()V" } : Jvm.MethodName) "ResourceLedger") ∈ lw_tbl := lw_at lw_m3 124 rfl
theorem q876 : (Jvm.Cond.fieldLink "ResourceLedger$HashTree$Nodes" (10 : Nat) "ResourceLedger$HashTree$Nodes" "keys" "LResourceLedger$HashTree$Fours;") ∈ lw_all := lw_g (lw_at lw_m3 132 rfl) rfl
theorem q878 : (Jvm.Cond.fieldLink "ResourceLedger$HashTree$Nodes" (16 : Nat) "ResourceLedger$HashTree$Nodes" "values" "LResourceLedger$HashTree$Fours;") ∈ lw_all := lw_g (lw_at lw_m3 134 rfl) rfl
theorem q880 : (Jvm.Cond.fieldLink "ResourceLedger$HashTree$Nodes" (19 : Nat) "ResourceLedger$HashTree$Nodes" "hashes" "LResourceLedger$HashTree$Fours;") ∈ lw_all := lw_g (lw_at lw_m3 136 rfl) rfl
theorem q882 : (Jvm.Cond.fieldLink "ResourceLedger$HashTree$Nodes" (22 : Nat) "ResourceLedger$HashTree$Nodes" "tops" "LResourceLedger$HashTree$Fours;") ∈ lw_all := lw_g (lw_at lw_m3 138 rfl) rfl
theorem q884 : (Jvm.Cond.fieldLink "ResourceLedger$HashTree$Nodes" (25 : Nat) "ResourceLedger$HashTree$Nodes" "levels" "[I") ∈ lw_all := lw_g (lw_at lw_m3 140 rfl) rfl
theorem q886 : (Jvm.Cond.fieldLink "ResourceLedger$HashTree$Nodes" (29 : Nat) "ResourceLedger$HashTree$Nodes" "lefts" "[I") ∈ lw_all := lw_g (lw_at lw_m3 142 rfl) rfl
theorem q888 : (Jvm.Cond.fieldLink "ResourceLedger$HashTree$Nodes" (32 : Nat) "ResourceLedger$HashTree$Nodes" "rights" "[I") ∈ lw_all := lw_g (lw_at lw_m3 144 rfl) rfl
theorem q890 : (Jvm.Cond.fieldLink "ResourceLedger$HashTree$Nodes" (35 : Nat) "ResourceLedger$HashTree$Nodes" "aboves" "[I") ∈ lw_all := lw_g (lw_at lw_m3 146 rfl) rfl
theorem q892 : (Jvm.Cond.fieldLink "ResourceLedger$HashTree$Nodes" (38 : Nat) "ResourceLedger$HashTree$Nodes" "fresh" "[Z") ∈ lw_all := lw_g (lw_at lw_m3 148 rfl) rfl
theorem q894 : (Jvm.Cond.fieldLink "ResourceLedger$HashTree$Nodes" (42 : Nat) "ResourceLedger$HashTree$Nodes" "free" "I") ∈ lw_all := lw_g (lw_at lw_m3 150 rfl) rfl
theorem q896 : (Jvm.Cond.fieldLink "ResourceLedger$HashTree$Nodes" (46 : Nat) "ResourceLedger$HashTree$Nodes" "made" "I") ∈ lw_all := lw_g (lw_at lw_m3 152 rfl) rfl
theorem q898 : (Jvm.Cond.laysFinal "ResourceLedger$HashTree$Nodes" "ResourceLedger$HashTree$Nodes" "keys" "LResourceLedger$HashTree$Fours;") ∈ lw_all := lw_g (lw_at lw_m3 154 rfl) rfl
theorem q899 : (Jvm.Cond.soleField "ResourceLedger$HashTree$Nodes" "keys") ∈ lw_all := lw_g (lw_at lw_m3 155 rfl) rfl
theorem q900 : (Jvm.Cond.laysFinal "ResourceLedger$HashTree$Nodes" "ResourceLedger$HashTree$Nodes" "values" "LResourceLedger$HashTree$Fours;") ∈ lw_all := lw_g (lw_at lw_m3 156 rfl) rfl
theorem q901 : (Jvm.Cond.soleField "ResourceLedger$HashTree$Nodes" "values") ∈ lw_all := lw_g (lw_at lw_m3 157 rfl) rfl
theorem q902 : (Jvm.Cond.laysFinal "ResourceLedger$HashTree$Nodes" "ResourceLedger$HashTree$Nodes" "hashes" "LResourceLedger$HashTree$Fours;") ∈ lw_all := lw_g (lw_at lw_m3 158 rfl) rfl
theorem q903 : (Jvm.Cond.soleField "ResourceLedger$HashTree$Nodes" "hashes") ∈ lw_all := lw_g (lw_at lw_m3 159 rfl) rfl
theorem q904 : (Jvm.Cond.laysFinal "ResourceLedger$HashTree$Nodes" "ResourceLedger$HashTree$Nodes" "tops" "LResourceLedger$HashTree$Fours;") ∈ lw_all := lw_g (lw_at lw_m3 160 rfl) rfl
theorem q905 : (Jvm.Cond.soleField "ResourceLedger$HashTree$Nodes" "tops") ∈ lw_all := lw_g (lw_at lw_m3 161 rfl) rfl
theorem q906 : (Jvm.Cond.laysFinal "ResourceLedger$HashTree$Nodes" "ResourceLedger$HashTree$Nodes" "levels" "[I") ∈ lw_all := lw_g (lw_at lw_m3 162 rfl) rfl
theorem q907 : (Jvm.Cond.soleField "ResourceLedger$HashTree$Nodes" "levels") ∈ lw_all := lw_g (lw_at lw_m3 163 rfl) rfl
theorem q908 : (Jvm.Cond.laysFinal "ResourceLedger$HashTree$Nodes" "ResourceLedger$HashTree$Nodes" "lefts" "[I") ∈ lw_all := lw_g (lw_at lw_m3 164 rfl) rfl
theorem q909 : (Jvm.Cond.soleField "ResourceLedger$HashTree$Nodes" "lefts") ∈ lw_all := lw_g (lw_at lw_m3 165 rfl) rfl
theorem q910 : (Jvm.Cond.laysFinal "ResourceLedger$HashTree$Nodes" "ResourceLedger$HashTree$Nodes" "rights" "[I") ∈ lw_all := lw_g (lw_at lw_m3 166 rfl) rfl
theorem q911 : (Jvm.Cond.soleField "ResourceLedger$HashTree$Nodes" "rights") ∈ lw_all := lw_g (lw_at lw_m3 167 rfl) rfl
theorem q912 : (Jvm.Cond.laysFinal "ResourceLedger$HashTree$Nodes" "ResourceLedger$HashTree$Nodes" "aboves" "[I") ∈ lw_all := lw_g (lw_at lw_m3 168 rfl) rfl
theorem q913 : (Jvm.Cond.soleField "ResourceLedger$HashTree$Nodes" "aboves") ∈ lw_all := lw_g (lw_at lw_m3 169 rfl) rfl
theorem q914 : (Jvm.Cond.laysFinal "ResourceLedger$HashTree$Nodes" "ResourceLedger$HashTree$Nodes" "fresh" "[Z") ∈ lw_all := lw_g (lw_at lw_m3 170 rfl) rfl
theorem q915 : (Jvm.Cond.soleField "ResourceLedger$HashTree$Nodes" "fresh") ∈ lw_all := lw_g (lw_at lw_m3 171 rfl) rfl
theorem q916 : (Jvm.Cond.lays "ResourceLedger$HashTree$Nodes" "ResourceLedger$HashTree$Nodes" "free" "I") ∈ lw_all := lw_g (lw_at lw_m3 172 rfl) rfl
theorem q917 : (Jvm.Cond.soleField "ResourceLedger$HashTree$Nodes" "free") ∈ lw_all := lw_g (lw_at lw_m3 173 rfl) rfl
theorem q918 : (Jvm.Cond.lays "ResourceLedger$HashTree$Nodes" "ResourceLedger$HashTree$Nodes" "made" "I") ∈ lw_all := lw_g (lw_at lw_m3 174 rfl) rfl
theorem q919 : (Jvm.Cond.soleField "ResourceLedger$HashTree$Nodes" "made") ∈ lw_all := lw_g (lw_at lw_m3 175 rfl) rfl
theorem q920 : (Jvm.Cond.superclass "ResourceLedger$HashTree$Nodes" "java/lang/Object") ∈ lw_all := lw_g (lw_at lw_m3 176 rfl) rfl
theorem q2252 : (Jvm.Cond.instanceMethod ({ cls := "ResourceLedger$HashTree$Nodes", name := "isLeaf", desc := "(I)Z" } : Jvm.MethodName)) ∈ lw_all := lw_g (lw_at lw_m9 68 rfl) rfl
theorem q2253 : (Jvm.Cond.selects "ResourceLedger$HashTree$Nodes" ({ cls := "ResourceLedger$HashTree$Nodes", name := "isLeaf", desc := "(I)Z" } : Jvm.MethodName) ({ cls := "ResourceLedger$HashTree$Nodes", name := "isLeaf", desc := "(I)Z" } : Jvm.MethodName)) ∈ lw_all := lw_g (lw_at lw_m9 69 rfl) rfl
theorem q2254 : (Jvm.Cond.code ({ cls := "ResourceLedger$HashTree$Nodes", name := "isLeaf", desc := "(I)Z" } : Jvm.MethodName) prog_13_method_4_code (2 : Nat) (Option.some Jvm.ClassFile.FieldType.boolean)) ∈ lw_all := lw_g (lw_at lw_m9 70 rfl) rfl
theorem q2260 : (Jvm.Cond.instanceMethod ({ cls := "ResourceLedger$HashTree$Nodes", name := "child", desc := "(II)I" } : Jvm.MethodName)) ∈ lw_all := lw_g (lw_at lw_m9 76 rfl) rfl
theorem q2261 : (Jvm.Cond.selects "ResourceLedger$HashTree$Nodes" ({ cls := "ResourceLedger$HashTree$Nodes", name := "child", desc := "(II)I" } : Jvm.MethodName) ({ cls := "ResourceLedger$HashTree$Nodes", name := "child", desc := "(II)I" } : Jvm.MethodName)) ∈ lw_all := lw_g (lw_at lw_m9 77 rfl) rfl
theorem q2262 : (Jvm.Cond.code ({ cls := "ResourceLedger$HashTree$Nodes", name := "child", desc := "(II)I" } : Jvm.MethodName) prog_13_method_5_code (3 : Nat) (Option.some Jvm.ClassFile.FieldType.int)) ∈ lw_all := lw_g (lw_at lw_m9 78 rfl) rfl
theorem q2272 : (Jvm.Cond.instanceMethod ({ cls := "ResourceLedger$HashTree$Nodes", name := "make", desc := "(II)I" } : Jvm.MethodName)) ∈ lw_all := lw_g (lw_at lw_m9 88 rfl) rfl
theorem q2273 : (Jvm.Cond.selects "ResourceLedger$HashTree$Nodes" ({ cls := "ResourceLedger$HashTree$Nodes", name := "make", desc := "(II)I" } : Jvm.MethodName) ({ cls := "ResourceLedger$HashTree$Nodes", name := "make", desc := "(II)I" } : Jvm.MethodName)) ∈ lw_all := lw_g (lw_at lw_m9 89 rfl) rfl
theorem q2274 : (Jvm.Cond.code ({ cls := "ResourceLedger$HashTree$Nodes", name := "make", desc := "(II)I" } : Jvm.MethodName) prog_13_method_2_code (4 : Nat) (Option.some Jvm.ClassFile.FieldType.int)) ∈ lw_all := lw_g (lw_at lw_m9 90 rfl) rfl
theorem q2285 : (Jvm.Cond.instanceMethod ({ cls := "ResourceLedger$HashTree$Nodes", name := "setChild", desc := "(III)V" } : Jvm.MethodName)) ∈ lw_all := lw_g (lw_at lw_m9 101 rfl) rfl
theorem q2286 : (Jvm.Cond.selects "ResourceLedger$HashTree$Nodes" ({ cls := "ResourceLedger$HashTree$Nodes", name := "setChild", desc := "(III)V" } : Jvm.MethodName) ({ cls := "ResourceLedger$HashTree$Nodes", name := "setChild", desc := "(III)V" } : Jvm.MethodName)) ∈ lw_all := lw_g (lw_at lw_m9 102 rfl) rfl
theorem q2287 : (Jvm.Cond.code ({ cls := "ResourceLedger$HashTree$Nodes", name := "setChild", desc := "(III)V" } : Jvm.MethodName) prog_13_method_6_code (4 : Nat) (Option.none : Option Jvm.ClassFile.FieldType)) ∈ lw_all := lw_g (lw_at lw_m9 103 rfl) rfl
theorem q2289 : (Jvm.Cond.instanceMethod ({ cls := "ResourceLedger$HashTree$Nodes", name := "touch", desc := "(I)V" } : Jvm.MethodName)) ∈ lw_all := lw_g (lw_at lw_m9 105 rfl) rfl
theorem q2290 : (Jvm.Cond.selects "ResourceLedger$HashTree$Nodes" ({ cls := "ResourceLedger$HashTree$Nodes", name := "touch", desc := "(I)V" } : Jvm.MethodName) ({ cls := "ResourceLedger$HashTree$Nodes", name := "touch", desc := "(I)V" } : Jvm.MethodName)) ∈ lw_all := lw_g (lw_at lw_m9 106 rfl) rfl
theorem q2291 : (Jvm.Cond.code ({ cls := "ResourceLedger$HashTree$Nodes", name := "touch", desc := "(I)V" } : Jvm.MethodName) prog_13_method_7_code (3 : Nat) (Option.none : Option Jvm.ClassFile.FieldType)) ∈ lw_all := lw_g (lw_at lw_m9 107 rfl) rfl
theorem q2321 : (Jvm.Cond.instanceMethod ({ cls := "ResourceLedger$HashTree$Nodes", name := "topLevel", desc := "(I)I" } : Jvm.MethodName)) ∈ lw_all := lw_g (lw_at lw_m9 137 rfl) rfl
theorem q2322 : (Jvm.Cond.selects "ResourceLedger$HashTree$Nodes" ({ cls := "ResourceLedger$HashTree$Nodes", name := "topLevel", desc := "(I)I" } : Jvm.MethodName) ({ cls := "ResourceLedger$HashTree$Nodes", name := "topLevel", desc := "(I)I" } : Jvm.MethodName)) ∈ lw_all := lw_g (lw_at lw_m9 138 rfl) rfl
theorem q2323 : (Jvm.Cond.code ({ cls := "ResourceLedger$HashTree$Nodes", name := "topLevel", desc := "(I)I" } : Jvm.MethodName) prog_13_method_8_code (2 : Nat) (Option.some Jvm.ClassFile.FieldType.int)) ∈ lw_all := lw_g (lw_at lw_m9 139 rfl) rfl
theorem in_X17 : ∀ w ∈ wsX170, w ∈ lw_all := lw_in wsX170 [898, 900, 902, 904, 906, 908, 910, 912, 914, 916, 918] (by decide +kernel) (by decide +kernel)
end
section
-- ResourceLedger$HashTree$Fours
set_option maxRecDepth 100000
def RX18 : String := "ResourceLedger$HashTree$Fours"
def TX18 : u_T := fun k => match k with
  | _ => ("ResourceLedger$HashTree$Fours", "row", "[J", true)
def tyX18 : Nat → FieldType := fun k => match k with
  | _ => .array .long
abbrev wsX180 : List Cond := u_ws RX18 TX18 1
theorem nmX18 : ∀ a, a < 1 → ∀ b, b < 1 → a ≠ b → (TX18 a).2.1 ≠ (TX18 b).2.1 := by decide +kernel
theorem tyX18_ok : ∀ k, k < 1 → parseFieldDescriptor (TX18 k).2.2.1 = some (tyX18 k) := by decide +kernel
abbrev cX18_init : ByteArray := prog_12_method_1_code
def yX18_init : MethodName := ⟨RX18, "<init>", "()V"⟩
abbrev cX18_set : ByteArray := prog_12_method_2_code
def yX18_set : MethodName := ⟨RX18, "set", "(IJJJJ)V"⟩
abbrev cX18_bit : ByteArray := prog_12_method_6_code
def yX18_bit : MethodName := ⟨RX18, "bit", "(II)I"⟩
abbrev cX18_isSame : ByteArray := prog_12_method_5_code
def yX18_isSame : MethodName := ⟨RX18, "isSame", "(ILResourceLedger$HashTree$Fours;I)Z"⟩
abbrev cX18_copy : ByteArray := prog_12_method_4_code
def yX18_copy : MethodName := ⟨RX18, "copy", "(ILResourceLedger$HashTree$Fours;I)V"⟩
abbrev cX18_fork : ByteArray := prog_12_method_7_code
def yX18_fork : MethodName := ⟨RX18, "fork", "(ILResourceLedger$HashTree$Fours;I)I"⟩
abbrev cX18_get : ByteArray := prog_12_method_3_code
def yX18_get : MethodName := ⟨RX18, "get", "(II)J"⟩
theorem q287 : (Jvm.Cond.initialized "ResourceLedger$HashTree$Fours") ∈ lw_all := lw_g (lw_at lw_m1 23 rfl) rfl
theorem q867 : (Jvm.Cond.instantiable "ResourceLedger$HashTree$Fours" (1 : Nat)) ∈ lw_all := lw_g (lw_at lw_m3 123 rfl) rfl
theorem q869 : (Jvm.Cond.instanceMethod ({ cls := "ResourceLedger$HashTree$Fours", name := "<init>", desc := "()V" } : Jvm.MethodName)) ∈ lw_all := lw_g (lw_at lw_m3 125 rfl) rfl
theorem q870 : (Jvm.Cond.code ({ cls := "ResourceLedger$HashTree$Fours", name := "<init>", desc := "()V" } : Jvm.MethodName) prog_12_method_1_code (1 : Nat) (Option.none : Option Jvm.ClassFile.FieldType)) ∈ lw_all := lw_g (lw_at lw_m3 126 rfl) rfl
theorem q871 : (Jvm.Cond.methodLink "ResourceLedger$HashTree$Fours" (1 : Nat) ({ cls := "java/lang/Object", name := "<init>", desc := "()V" } : Jvm.MethodName)) ∈ lw_all := lw_g (lw_at lw_m3 127 rfl) rfl
theorem q872 : (Jvm.Cond.fieldLink "ResourceLedger$HashTree$Fours" (7 : Nat) "ResourceLedger$HashTree$Fours" "row" "[J") ∈ lw_all := lw_g (lw_at lw_m3 128 rfl) rfl
theorem q873 : (Jvm.Cond.laysFinal "ResourceLedger$HashTree$Fours" "ResourceLedger$HashTree$Fours" "row" "[J") ∈ lw_all := lw_g (lw_at lw_m3 129 rfl) rfl
theorem q874 : (Jvm.Cond.soleField "ResourceLedger$HashTree$Fours" "row") ∈ lw_all := lw_g (lw_at lw_m3 130 rfl) rfl
theorem q875 : (Jvm.Cond.superclass "ResourceLedger$HashTree$Fours" "java/lang/Object") ∈ lw_all := lw_g (lw_at lw_m3 131 rfl) rfl
theorem q2232 : (Jvm.Cond.instanceMethod ({ cls := "ResourceLedger$HashTree$Fours", name := "set", desc := "(IJJJJ)V" } : Jvm.MethodName)) ∈ lw_all := lw_g (lw_at lw_m9 48 rfl) rfl
theorem q2233 : (Jvm.Cond.selects "ResourceLedger$HashTree$Fours" ({ cls := "ResourceLedger$HashTree$Fours", name := "set", desc := "(IJJJJ)V" } : Jvm.MethodName) ({ cls := "ResourceLedger$HashTree$Fours", name := "set", desc := "(IJJJJ)V" } : Jvm.MethodName)) ∈ lw_all := lw_g (lw_at lw_m9 49 rfl) rfl
theorem q2234 : (Jvm.Cond.code ({ cls := "ResourceLedger$HashTree$Fours", name := "set", desc := "(IJJJJ)V" } : Jvm.MethodName) prog_12_method_2_code (10 : Nat) (Option.none : Option Jvm.ClassFile.FieldType)) ∈ lw_all := lw_g (lw_at lw_m9 50 rfl) rfl
theorem q2256 : (Jvm.Cond.instanceMethod ({ cls := "ResourceLedger$HashTree$Fours", name := "bit", desc := "(II)I" } : Jvm.MethodName)) ∈ lw_all := lw_g (lw_at lw_m9 72 rfl) rfl
theorem q2257 : (Jvm.Cond.selects "ResourceLedger$HashTree$Fours" ({ cls := "ResourceLedger$HashTree$Fours", name := "bit", desc := "(II)I" } : Jvm.MethodName) ({ cls := "ResourceLedger$HashTree$Fours", name := "bit", desc := "(II)I" } : Jvm.MethodName)) ∈ lw_all := lw_g (lw_at lw_m9 73 rfl) rfl
theorem q2258 : (Jvm.Cond.code ({ cls := "ResourceLedger$HashTree$Fours", name := "bit", desc := "(II)I" } : Jvm.MethodName) prog_12_method_6_code (3 : Nat) (Option.some Jvm.ClassFile.FieldType.int)) ∈ lw_all := lw_g (lw_at lw_m9 74 rfl) rfl
theorem q2264 : (Jvm.Cond.instanceMethod ({ cls := "ResourceLedger$HashTree$Fours", name := "isSame", desc := "(ILResourceLedger$HashTree$Fours;I)Z" } : Jvm.MethodName)) ∈ lw_all := lw_g (lw_at lw_m9 80 rfl) rfl
theorem q2265 : (Jvm.Cond.selects "ResourceLedger$HashTree$Fours" ({ cls := "ResourceLedger$HashTree$Fours", name := "isSame", desc := "(ILResourceLedger$HashTree$Fours;I)Z" } : Jvm.MethodName) ({ cls := "ResourceLedger$HashTree$Fours", name := "isSame", desc := "(ILResourceLedger$HashTree$Fours;I)Z" } : Jvm.MethodName)) ∈ lw_all := lw_g (lw_at lw_m9 81 rfl) rfl
theorem q2266 : (Jvm.Cond.code ({ cls := "ResourceLedger$HashTree$Fours", name := "isSame", desc := "(ILResourceLedger$HashTree$Fours;I)Z" } : Jvm.MethodName) prog_12_method_5_code (6 : Nat) (Option.some Jvm.ClassFile.FieldType.boolean)) ∈ lw_all := lw_g (lw_at lw_m9 82 rfl) rfl
theorem q2276 : (Jvm.Cond.instanceMethod ({ cls := "ResourceLedger$HashTree$Fours", name := "copy", desc := "(ILResourceLedger$HashTree$Fours;I)V" } : Jvm.MethodName)) ∈ lw_all := lw_g (lw_at lw_m9 92 rfl) rfl
theorem q2277 : (Jvm.Cond.selects "ResourceLedger$HashTree$Fours" ({ cls := "ResourceLedger$HashTree$Fours", name := "copy", desc := "(ILResourceLedger$HashTree$Fours;I)V" } : Jvm.MethodName) ({ cls := "ResourceLedger$HashTree$Fours", name := "copy", desc := "(ILResourceLedger$HashTree$Fours;I)V" } : Jvm.MethodName)) ∈ lw_all := lw_g (lw_at lw_m9 93 rfl) rfl
theorem q2278 : (Jvm.Cond.code ({ cls := "ResourceLedger$HashTree$Fours", name := "copy", desc := "(ILResourceLedger$HashTree$Fours;I)V" } : Jvm.MethodName) prog_12_method_4_code (5 : Nat) (Option.none : Option Jvm.ClassFile.FieldType)) ∈ lw_all := lw_g (lw_at lw_m9 94 rfl) rfl
theorem q2280 : (Jvm.Cond.instanceMethod ({ cls := "ResourceLedger$HashTree$Fours", name := "fork", desc := "(ILResourceLedger$HashTree$Fours;I)I" } : Jvm.MethodName)) ∈ lw_all := lw_g (lw_at lw_m9 96 rfl) rfl
theorem q2281 : (Jvm.Cond.selects "ResourceLedger$HashTree$Fours" ({ cls := "ResourceLedger$HashTree$Fours", name := "fork", desc := "(ILResourceLedger$HashTree$Fours;I)I" } : Jvm.MethodName) ({ cls := "ResourceLedger$HashTree$Fours", name := "fork", desc := "(ILResourceLedger$HashTree$Fours;I)I" } : Jvm.MethodName)) ∈ lw_all := lw_g (lw_at lw_m9 97 rfl) rfl
theorem q2282 : (Jvm.Cond.code ({ cls := "ResourceLedger$HashTree$Fours", name := "fork", desc := "(ILResourceLedger$HashTree$Fours;I)I" } : Jvm.MethodName) prog_12_method_7_code (7 : Nat) (Option.some Jvm.ClassFile.FieldType.int)) ∈ lw_all := lw_g (lw_at lw_m9 98 rfl) rfl
theorem q2283 : (Jvm.Cond.methodLink "ResourceLedger$HashTree$Fours" (13 : Nat) ({ cls := "java/lang/Long", name := "numberOfLeadingZeros", desc := "(J)I" } : Jvm.MethodName)) ∈ lw_all := lw_g (lw_at lw_m9 99 rfl) rfl
theorem q2310 : (Jvm.Cond.instanceMethod ({ cls := "ResourceLedger$HashTree$Fours", name := "get", desc := "(II)J" } : Jvm.MethodName)) ∈ lw_all := lw_g (lw_at lw_m9 126 rfl) rfl
theorem q2311 : (Jvm.Cond.selects "ResourceLedger$HashTree$Fours" ({ cls := "ResourceLedger$HashTree$Fours", name := "get", desc := "(II)J" } : Jvm.MethodName) ({ cls := "ResourceLedger$HashTree$Fours", name := "get", desc := "(II)J" } : Jvm.MethodName)) ∈ lw_all := lw_g (lw_at lw_m9 127 rfl) rfl
theorem q2312 : (Jvm.Cond.code ({ cls := "ResourceLedger$HashTree$Fours", name := "get", desc := "(II)J" } : Jvm.MethodName) prog_12_method_3_code (3 : Nat) (Option.some Jvm.ClassFile.FieldType.long)) ∈ lw_all := lw_g (lw_at lw_m9 128 rfl) rfl
theorem in_X18 : ∀ w ∈ wsX180, w ∈ lw_all := lw_in wsX180 [873] (by decide +kernel) (by decide +kernel)
end
section
-- ResourceLedger$Wide
set_option maxRecDepth 100000
def RX19 : String := "ResourceLedger$Wide"
def TX19 : u_T := fun k => match k with
  | 0 => ("ResourceLedger$Wide", "high", "J", false)
  | 1 => ("ResourceLedger$Wide", "low", "J", false)
  | _ => ("ResourceLedger$Wide", "beyond", "Z", false)
def tyX19 : Nat → FieldType := fun k => match k with
  | 0 => .long
  | 1 => .long
  | _ => .boolean
abbrev wsX190 : List Cond := u_ws RX19 TX19 3
theorem nmX19 : ∀ a, a < 3 → ∀ b, b < 3 → a ≠ b → (TX19 a).2.1 ≠ (TX19 b).2.1 := by decide +kernel
theorem tyX19_ok : ∀ k, k < 3 → parseFieldDescriptor (TX19 k).2.2.1 = some (tyX19 k) := by decide +kernel
abbrev cX19_init : ByteArray := prog_24_method_1_code
def yX19_init : MethodName := ⟨RX19, "<init>", "()V"⟩
abbrev cX19_set : ByteArray := prog_24_method_2_code
def yX19_set : MethodName := ⟨RX19, "set", "(JJ)V"⟩
abbrev cX19_add : ByteArray := prog_24_method_5_code
def yX19_add : MethodName := ⟨RX19, "add", "(JJ)V"⟩
abbrev cX19_carries : ByteArray := prog_24_method_4_code
def yX19_carries : MethodName := ⟨RX19, "carries", "(JJ)Z"⟩
abbrev cX19_subtract : ByteArray := prog_24_method_6_code
def yX19_subtract : MethodName := ⟨RX19, "subtract", "(JJ)V"⟩
abbrev cX19_compare : ByteArray := prog_24_method_3_code
def yX19_compare : MethodName := ⟨RX19, "compare", "(JJJJ)I"⟩
abbrev cX19_multiply : ByteArray := prog_24_method_8_code
def yX19_multiply : MethodName := ⟨RX19, "multiply", "(JJ)V"⟩
abbrev cX19_upper : ByteArray := prog_24_method_7_code
def yX19_upper : MethodName := ⟨RX19, "upper", "(JJ)J"⟩
abbrev cX19_divide : ByteArray := prog_24_method_9_code
def yX19_divide : MethodName := ⟨RX19, "divide", "(JJZ)V"⟩
abbrev cX19_bits : ByteArray := prog_24_method_12_code
def yX19_bits : MethodName := ⟨RX19, "bits", "(J)I"⟩
abbrev cX19_up : ByteArray := prog_24_method_10_code
def yX19_up : MethodName := ⟨RX19, "up", "(I)V"⟩
abbrev cX19_down : ByteArray := prog_24_method_11_code
def yX19_down : MethodName := ⟨RX19, "down", "(I)V"⟩
abbrev cX19_cut : ByteArray := prog_24_method_14_code
def yX19_cut : MethodName := ⟨RX19, "cut", "(J)V"⟩
abbrev cX19_fits : ByteArray := prog_24_method_13_code
def yX19_fits : MethodName := ⟨RX19, "fits", "(J)Z"⟩
theorem q288 : (Jvm.Cond.initialized "ResourceLedger$Wide") ∈ lw_all := lw_g (lw_at lw_m1 24 rfl) rfl
theorem q950 : (Jvm.Cond.instantiable "ResourceLedger$Wide" (3 : Nat)) ∈ lw_all := lw_g (lw_at lw_m3 206 rfl) rfl
theorem q952 : (Jvm.Cond.instanceMethod ({ cls := "ResourceLedger$Wide", name := "<init>", desc := "()V" } : Jvm.MethodName)) ∈ lw_all := lw_g (lw_at lw_m3 208 rfl) rfl
theorem q953 : (Jvm.Cond.code ({ cls := "ResourceLedger$Wide", name := "<init>", desc := "()V" } : Jvm.MethodName) prog_24_method_1_code (1 : Nat) (Option.none : Option Jvm.ClassFile.FieldType)) ∈ lw_all := lw_g (lw_at lw_m3 209 rfl) rfl
theorem q954 : (Jvm.Cond.methodLink "ResourceLedger$Wide" (3 : Nat) ({ cls := "java/lang/Object", name := "<init>", desc := "()V" } : Jvm.MethodName)) ∈ lw_all := lw_g (lw_at lw_m3 210 rfl) rfl
theorem q955 : (Jvm.Cond.fieldLink "ResourceLedger$Wide" (9 : Nat) "ResourceLedger$Wide" "high" "J") ∈ lw_all := lw_g (lw_at lw_m3 211 rfl) rfl
theorem q957 : (Jvm.Cond.fieldLink "ResourceLedger$Wide" (15 : Nat) "ResourceLedger$Wide" "low" "J") ∈ lw_all := lw_g (lw_at lw_m3 213 rfl) rfl
theorem q959 : (Jvm.Cond.fieldLink "ResourceLedger$Wide" (18 : Nat) "ResourceLedger$Wide" "beyond" "Z") ∈ lw_all := lw_g (lw_at lw_m3 215 rfl) rfl
theorem q960 : (Jvm.Cond.lays "ResourceLedger$Wide" "ResourceLedger$Wide" "high" "J") ∈ lw_all := lw_g (lw_at lw_m3 216 rfl) rfl
theorem q961 : (Jvm.Cond.soleField "ResourceLedger$Wide" "high") ∈ lw_all := lw_g (lw_at lw_m3 217 rfl) rfl
theorem q962 : (Jvm.Cond.lays "ResourceLedger$Wide" "ResourceLedger$Wide" "low" "J") ∈ lw_all := lw_g (lw_at lw_m3 218 rfl) rfl
theorem q963 : (Jvm.Cond.soleField "ResourceLedger$Wide" "low") ∈ lw_all := lw_g (lw_at lw_m3 219 rfl) rfl
theorem q964 : (Jvm.Cond.lays "ResourceLedger$Wide" "ResourceLedger$Wide" "beyond" "Z") ∈ lw_all := lw_g (lw_at lw_m3 220 rfl) rfl
theorem q965 : (Jvm.Cond.soleField "ResourceLedger$Wide" "beyond") ∈ lw_all := lw_g (lw_at lw_m3 221 rfl) rfl
theorem q966 : (Jvm.Cond.superclass "ResourceLedger$Wide" "java/lang/Object") ∈ lw_all := lw_g (lw_at lw_m3 222 rfl) rfl
theorem q1658 : (Jvm.Cond.instanceMethod ({ cls := "ResourceLedger$Wide", name := "set", desc := "(JJ)V" } : Jvm.MethodName)) ∈ lw_all := lw_g (lw_at lw_m6 194 rfl) rfl
theorem q1659 : (Jvm.Cond.selects "ResourceLedger$Wide" ({ cls := "ResourceLedger$Wide", name := "set", desc := "(JJ)V" } : Jvm.MethodName) ({ cls := "ResourceLedger$Wide", name := "set", desc := "(JJ)V" } : Jvm.MethodName)) ∈ lw_all := lw_g (lw_at lw_m6 195 rfl) rfl
theorem q1660 : (Jvm.Cond.code ({ cls := "ResourceLedger$Wide", name := "set", desc := "(JJ)V" } : Jvm.MethodName) prog_24_method_2_code (5 : Nat) (Option.none : Option Jvm.ClassFile.FieldType)) ∈ lw_all := lw_g (lw_at lw_m6 196 rfl) rfl
theorem q1662 : (Jvm.Cond.instanceMethod ({ cls := "ResourceLedger$Wide", name := "add", desc := "(JJ)V" } : Jvm.MethodName)) ∈ lw_all := lw_g (lw_at lw_m6 198 rfl) rfl
theorem q1663 : (Jvm.Cond.selects "ResourceLedger$Wide" ({ cls := "ResourceLedger$Wide", name := "add", desc := "(JJ)V" } : Jvm.MethodName) ({ cls := "ResourceLedger$Wide", name := "add", desc := "(JJ)V" } : Jvm.MethodName)) ∈ lw_all := lw_g (lw_at lw_m6 199 rfl) rfl
theorem q1664 : (Jvm.Cond.code ({ cls := "ResourceLedger$Wide", name := "add", desc := "(JJ)V" } : Jvm.MethodName) prog_24_method_5_code (6 : Nat) (Option.none : Option Jvm.ClassFile.FieldType)) ∈ lw_all := lw_g (lw_at lw_m6 200 rfl) rfl
theorem q1665 : (Jvm.Cond.methodLink "ResourceLedger$Wide" (28 : Nat) ({ cls := "ResourceLedger$Wide", name := "carries", desc := "(JJ)Z" } : Jvm.MethodName)) ∈ lw_all := lw_g (lw_at lw_m6 201 rfl) rfl
theorem q1666 : (Jvm.Cond.static ({ cls := "ResourceLedger$Wide", name := "carries", desc := "(JJ)Z" } : Jvm.MethodName)) ∈ lw_all := lw_g (lw_at lw_m6 202 rfl) rfl
theorem q1667 : (Jvm.Cond.code ({ cls := "ResourceLedger$Wide", name := "carries", desc := "(JJ)Z" } : Jvm.MethodName) prog_24_method_4_code (4 : Nat) (Option.some Jvm.ClassFile.FieldType.boolean)) ∈ lw_all := lw_g (lw_at lw_m6 203 rfl) rfl
theorem q1668 : (Jvm.Cond.methodLink "ResourceLedger$Wide" (22 : Nat) ({ cls := "java/lang/Long", name := "compareUnsigned", desc := "(JJ)I" } : Jvm.MethodName)) ∈ lw_all := lw_g (lw_at lw_m6 204 rfl) rfl
theorem q1670 : (Jvm.Cond.instanceMethod ({ cls := "ResourceLedger$Wide", name := "subtract", desc := "(JJ)V" } : Jvm.MethodName)) ∈ lw_all := lw_g (lw_at lw_m6 206 rfl) rfl
theorem q1671 : (Jvm.Cond.selects "ResourceLedger$Wide" ({ cls := "ResourceLedger$Wide", name := "subtract", desc := "(JJ)V" } : Jvm.MethodName) ({ cls := "ResourceLedger$Wide", name := "subtract", desc := "(JJ)V" } : Jvm.MethodName)) ∈ lw_all := lw_g (lw_at lw_m6 207 rfl) rfl
theorem q1672 : (Jvm.Cond.code ({ cls := "ResourceLedger$Wide", name := "subtract", desc := "(JJ)V" } : Jvm.MethodName) prog_24_method_6_code (6 : Nat) (Option.none : Option Jvm.ClassFile.FieldType)) ∈ lw_all := lw_g (lw_at lw_m6 208 rfl) rfl
theorem q1673 : (Jvm.Cond.methodLink "ResourceLedger$Wide" (32 : Nat) ({ cls := "ResourceLedger$Wide", name := "compare", desc := "(JJJJ)I" } : Jvm.MethodName)) ∈ lw_all := lw_g (lw_at lw_m6 209 rfl) rfl
theorem q1674 : (Jvm.Cond.static ({ cls := "ResourceLedger$Wide", name := "compare", desc := "(JJJJ)I" } : Jvm.MethodName)) ∈ lw_all := lw_g (lw_at lw_m6 210 rfl) rfl
theorem q1675 : (Jvm.Cond.code ({ cls := "ResourceLedger$Wide", name := "compare", desc := "(JJJJ)I" } : Jvm.MethodName) prog_24_method_3_code (9 : Nat) (Option.some Jvm.ClassFile.FieldType.int)) ∈ lw_all := lw_g (lw_at lw_m6 211 rfl) rfl
theorem q1677 : (Jvm.Cond.instanceMethod ({ cls := "ResourceLedger$Wide", name := "multiply", desc := "(JJ)V" } : Jvm.MethodName)) ∈ lw_all := lw_g (lw_at lw_m6 213 rfl) rfl
theorem q1678 : (Jvm.Cond.selects "ResourceLedger$Wide" ({ cls := "ResourceLedger$Wide", name := "multiply", desc := "(JJ)V" } : Jvm.MethodName) ({ cls := "ResourceLedger$Wide", name := "multiply", desc := "(JJ)V" } : Jvm.MethodName)) ∈ lw_all := lw_g (lw_at lw_m6 214 rfl) rfl
theorem q1679 : (Jvm.Cond.code ({ cls := "ResourceLedger$Wide", name := "multiply", desc := "(JJ)V" } : Jvm.MethodName) prog_24_method_8_code (10 : Nat) (Option.none : Option Jvm.ClassFile.FieldType)) ∈ lw_all := lw_g (lw_at lw_m6 215 rfl) rfl
theorem q1680 : (Jvm.Cond.methodLink "ResourceLedger$Wide" (42 : Nat) ({ cls := "ResourceLedger$Wide", name := "upper", desc := "(JJ)J" } : Jvm.MethodName)) ∈ lw_all := lw_g (lw_at lw_m6 216 rfl) rfl
theorem q1681 : (Jvm.Cond.static ({ cls := "ResourceLedger$Wide", name := "upper", desc := "(JJ)J" } : Jvm.MethodName)) ∈ lw_all := lw_g (lw_at lw_m6 217 rfl) rfl
theorem q1682 : (Jvm.Cond.code ({ cls := "ResourceLedger$Wide", name := "upper", desc := "(JJ)J" } : Jvm.MethodName) prog_24_method_7_code (4 : Nat) (Option.some Jvm.ClassFile.FieldType.long)) ∈ lw_all := lw_g (lw_at lw_m6 218 rfl) rfl
theorem q1683 : (Jvm.Cond.methodLink "ResourceLedger$Wide" (36 : Nat) ({ cls := "java/lang/Math", name := "multiplyHigh", desc := "(JJ)J" } : Jvm.MethodName)) ∈ lw_all := lw_g (lw_at lw_m6 219 rfl) rfl
theorem q1688 : (Jvm.Cond.instanceMethod ({ cls := "ResourceLedger$Wide", name := "divide", desc := "(JJZ)V" } : Jvm.MethodName)) ∈ lw_all := lw_g (lw_at lw_m6 224 rfl) rfl
theorem q1689 : (Jvm.Cond.selects "ResourceLedger$Wide" ({ cls := "ResourceLedger$Wide", name := "divide", desc := "(JJZ)V" } : Jvm.MethodName) ({ cls := "ResourceLedger$Wide", name := "divide", desc := "(JJZ)V" } : Jvm.MethodName)) ∈ lw_all := lw_g (lw_at lw_m6 225 rfl) rfl
theorem q1690 : (Jvm.Cond.code ({ cls := "ResourceLedger$Wide", name := "divide", desc := "(JJZ)V" } : Jvm.MethodName) prog_24_method_9_code (17 : Nat) (Option.none : Option Jvm.ClassFile.FieldType)) ∈ lw_all := lw_g (lw_at lw_m6 226 rfl) rfl
theorem q1691 : (Jvm.Cond.methodLink "ResourceLedger$Wide" (45 : Nat) ({ cls := "ResourceLedger$Wide", name := "set", desc := "(JJ)V" } : Jvm.MethodName)) ∈ lw_all := lw_g (lw_at lw_m6 227 rfl) rfl
theorem q1693 : (Jvm.Cond.static ({ cls := "ResourceLedger$Wide", name := "bits", desc := "(J)I" } : Jvm.MethodName)) ∈ lw_all := lw_g (lw_at lw_m6 229 rfl) rfl
theorem q1694 : (Jvm.Cond.code ({ cls := "ResourceLedger$Wide", name := "bits", desc := "(J)I" } : Jvm.MethodName) prog_24_method_12_code (2 : Nat) (Option.some Jvm.ClassFile.FieldType.int)) ∈ lw_all := lw_g (lw_at lw_m6 230 rfl) rfl
theorem q1695 : (Jvm.Cond.constantLong "ResourceLedger$Wide" (49 : Nat) (2 : Int64)) ∈ lw_all := lw_g (lw_at lw_m6 231 rfl) rfl
theorem q1696 : (Jvm.Cond.constantLong "ResourceLedger$Wide" (51 : Nat) (3 : Int64)) ∈ lw_all := lw_g (lw_at lw_m6 232 rfl) rfl
theorem q1697 : (Jvm.Cond.constantLong "ResourceLedger$Wide" (53 : Nat) (4 : Int64)) ∈ lw_all := lw_g (lw_at lw_m6 233 rfl) rfl
theorem q1699 : (Jvm.Cond.instanceMethod ({ cls := "ResourceLedger$Wide", name := "up", desc := "(I)V" } : Jvm.MethodName)) ∈ lw_all := lw_g (lw_at lw_m6 235 rfl) rfl
theorem q1700 : (Jvm.Cond.selects "ResourceLedger$Wide" ({ cls := "ResourceLedger$Wide", name := "up", desc := "(I)V" } : Jvm.MethodName) ({ cls := "ResourceLedger$Wide", name := "up", desc := "(I)V" } : Jvm.MethodName)) ∈ lw_all := lw_g (lw_at lw_m6 236 rfl) rfl
theorem q1701 : (Jvm.Cond.code ({ cls := "ResourceLedger$Wide", name := "up", desc := "(I)V" } : Jvm.MethodName) prog_24_method_10_code (2 : Nat) (Option.none : Option Jvm.ClassFile.FieldType)) ∈ lw_all := lw_g (lw_at lw_m6 237 rfl) rfl
theorem q1703 : (Jvm.Cond.instanceMethod ({ cls := "ResourceLedger$Wide", name := "down", desc := "(I)V" } : Jvm.MethodName)) ∈ lw_all := lw_g (lw_at lw_m6 239 rfl) rfl
theorem q1704 : (Jvm.Cond.selects "ResourceLedger$Wide" ({ cls := "ResourceLedger$Wide", name := "down", desc := "(I)V" } : Jvm.MethodName) ({ cls := "ResourceLedger$Wide", name := "down", desc := "(I)V" } : Jvm.MethodName)) ∈ lw_all := lw_g (lw_at lw_m7 0 rfl) rfl
theorem q1705 : (Jvm.Cond.code ({ cls := "ResourceLedger$Wide", name := "down", desc := "(I)V" } : Jvm.MethodName) prog_24_method_11_code (2 : Nat) (Option.none : Option Jvm.ClassFile.FieldType)) ∈ lw_all := lw_g (lw_at lw_m7 1 rfl) rfl
theorem q1707 : (Jvm.Cond.instanceMethod ({ cls := "ResourceLedger$Wide", name := "cut", desc := "(J)V" } : Jvm.MethodName)) ∈ lw_all := lw_g (lw_at lw_m7 3 rfl) rfl
theorem q1708 : (Jvm.Cond.selects "ResourceLedger$Wide" ({ cls := "ResourceLedger$Wide", name := "cut", desc := "(J)V" } : Jvm.MethodName) ({ cls := "ResourceLedger$Wide", name := "cut", desc := "(J)V" } : Jvm.MethodName)) ∈ lw_all := lw_g (lw_at lw_m7 4 rfl) rfl
theorem q1709 : (Jvm.Cond.code ({ cls := "ResourceLedger$Wide", name := "cut", desc := "(J)V" } : Jvm.MethodName) prog_24_method_14_code (3 : Nat) (Option.none : Option Jvm.ClassFile.FieldType)) ∈ lw_all := lw_g (lw_at lw_m7 5 rfl) rfl
theorem q1710 : (Jvm.Cond.constantLong "ResourceLedger$Wide" (55 : Nat) (255 : Int64)) ∈ lw_all := lw_g (lw_at lw_m7 6 rfl) rfl
theorem q1712 : (Jvm.Cond.instanceMethod ({ cls := "ResourceLedger$Wide", name := "fits", desc := "(J)Z" } : Jvm.MethodName)) ∈ lw_all := lw_g (lw_at lw_m7 8 rfl) rfl
theorem q1713 : (Jvm.Cond.selects "ResourceLedger$Wide" ({ cls := "ResourceLedger$Wide", name := "fits", desc := "(J)Z" } : Jvm.MethodName) ({ cls := "ResourceLedger$Wide", name := "fits", desc := "(J)Z" } : Jvm.MethodName)) ∈ lw_all := lw_g (lw_at lw_m7 9 rfl) rfl
theorem q1714 : (Jvm.Cond.code ({ cls := "ResourceLedger$Wide", name := "fits", desc := "(J)Z" } : Jvm.MethodName) prog_24_method_13_code (3 : Nat) (Option.some Jvm.ClassFile.FieldType.boolean)) ∈ lw_all := lw_g (lw_at lw_m7 10 rfl) rfl
theorem in_X19 : ∀ w ∈ wsX190, w ∈ lw_all := lw_in wsX190 [960, 962, 964] (by decide +kernel) (by decide +kernel)
end
section
-- java/lang/Math
set_option maxRecDepth 100000
def RJ5 : String := "java/lang/Math"
abbrev cJ5_min : ByteArray := prog_40_method_69_code
def yJ5_min : MethodName := ⟨RJ5, "min", "(II)I"⟩
abbrev cJ5_max : ByteArray := prog_40_method_65_code
def yJ5_max : MethodName := ⟨RJ5, "max", "(II)I"⟩
abbrev cJ5_multiplyHigh : ByteArray := prog_40_method_45_code
def yJ5_multiplyHigh : MethodName := ⟨RJ5, "multiplyHigh", "(JJ)J"⟩
theorem q289 : (Jvm.Cond.initialized "java/lang/Math") ∈ lw_all := lw_g (lw_at lw_m1 25 rfl) rfl
theorem q969 : (Jvm.Cond.static ({ cls := "java/lang/Math", name := "min", desc := "(II)I" } : Jvm.MethodName)) ∈ lw_all := lw_g (lw_at lw_m3 225 rfl) rfl
theorem q970 : (Jvm.Cond.code ({ cls := "java/lang/Math", name := "min", desc := "(II)I" } : Jvm.MethodName) prog_40_method_69_code (2 : Nat) (Option.some Jvm.ClassFile.FieldType.int)) ∈ lw_all := lw_g (lw_at lw_m3 226 rfl) rfl
theorem q972 : (Jvm.Cond.static ({ cls := "java/lang/Math", name := "max", desc := "(II)I" } : Jvm.MethodName)) ∈ lw_all := lw_g (lw_at lw_m3 228 rfl) rfl
theorem q973 : (Jvm.Cond.code ({ cls := "java/lang/Math", name := "max", desc := "(II)I" } : Jvm.MethodName) prog_40_method_65_code (2 : Nat) (Option.some Jvm.ClassFile.FieldType.int)) ∈ lw_all := lw_g (lw_at lw_m3 229 rfl) rfl
theorem q1684 : (Jvm.Cond.static ({ cls := "java/lang/Math", name := "multiplyHigh", desc := "(JJ)J" } : Jvm.MethodName)) ∈ lw_all := lw_g (lw_at lw_m6 220 rfl) rfl
theorem q1685 : (Jvm.Cond.code ({ cls := "java/lang/Math", name := "multiplyHigh", desc := "(JJ)J" } : Jvm.MethodName) prog_40_method_45_code (20 : Nat) (Option.some Jvm.ClassFile.FieldType.long)) ∈ lw_all := lw_g (lw_at lw_m6 221 rfl) rfl
theorem q1686 : (Jvm.Cond.constantLong "java/lang/Math" (138 : Nat) (4294967295 : Int64)) ∈ lw_all := lw_g (lw_at lw_m6 222 rfl) rfl
end
section
-- ResourceLedger$Worker
set_option maxRecDepth 100000
def RX20 : String := "ResourceLedger$Worker"
def TX20 : u_T := fun k => match k with
  | 0 => ("ResourceLedger$Worker", "task", "I", false)
  | 1 => ("ResourceLedger$Worker", "t", "I", false)
  | 2 => ("ResourceLedger$Worker", "run", "I", false)
  | 3 => ("ResourceLedger$Worker", "looked", "I", false)
  | 4 => ("ResourceLedger$Worker", "begun", "Z", false)
  | 5 => ("ResourceLedger$Worker", "frames", "[LResourceLedger$Frame;", true)
  | 6 => ("ResourceLedger$Worker", "depth", "I", false)
  | 7 => ("ResourceLedger$Worker", "gas", "I", false)
  | 8 => ("ResourceLedger$Worker", "entries", "LResourceLedger$Entries;", true)
  | 9 => ("ResourceLedger$Worker", "asked", "I", false)
  | 10 => ("ResourceLedger$Worker", "balance", "J", false)
  | _ => ("ResourceLedger$Worker", "sequence", "J", false)
def tyX20 : Nat → FieldType := fun k => match k with
  | 0 => .int
  | 1 => .int
  | 2 => .int
  | 3 => .int
  | 4 => .boolean
  | 5 => .array (.object "ResourceLedger$Frame")
  | 6 => .int
  | 7 => .int
  | 8 => .object "ResourceLedger$Entries"
  | 9 => .int
  | 10 => .long
  | _ => .long
abbrev wsX200 : List Cond := u_ws RX20 TX20 12
theorem nmX20 : ∀ a, a < 12 → ∀ b, b < 12 → a ≠ b → (TX20 a).2.1 ≠ (TX20 b).2.1 := by decide +kernel
theorem tyX20_ok : ∀ k, k < 12 → parseFieldDescriptor (TX20 k).2.2.1 = some (tyX20 k) := by decide +kernel
abbrev cX20_init : ByteArray := prog_25_method_1_code
def yX20_init : MethodName := ⟨RX20, "<init>", "()V"⟩
abbrev cX20_frame : ByteArray := prog_25_method_2_code
def yX20_frame : MethodName := ⟨RX20, "frame", "()LResourceLedger$Frame;"⟩
abbrev cX20_clear : ByteArray := prog_25_method_3_code
def yX20_clear : MethodName := ⟨RX20, "clear", "(LResourceLedger$Pool;)V"⟩
theorem q290 : (Jvm.Cond.initialized "ResourceLedger$Worker") ∈ lw_all := lw_g (lw_at lw_m1 26 rfl) rfl
theorem q576 : (Jvm.Cond.fieldLinkNest "ResourceLedger$Worker" (58 : Nat) "ResourceLedger$Entry" "value" "LResourceLedger$Value;" "ResourceLedger") ∈ lw_tbl := lw_at lw_m2 72 rfl
theorem q611 : (Jvm.Cond.fieldLinkNest "ResourceLedger$Worker" (54 : Nat) "ResourceLedger$Entries" "row" "[LResourceLedger$Entry;" "ResourceLedger") ∈ lw_tbl := lw_at lw_m2 107 rfl
theorem q614 : (Jvm.Cond.fieldLinkNest "ResourceLedger$Worker" (51 : Nat) "ResourceLedger$Entries" "count" "I" "ResourceLedger") ∈ lw_tbl := lw_at lw_m2 110 rfl
theorem q976 : (Jvm.Cond.instantiable "ResourceLedger$Worker" (12 : Nat)) ∈ lw_all := lw_g (lw_at lw_m3 232 rfl) rfl
theorem q978 : (Jvm.Cond.instanceMethod ({ cls := "ResourceLedger$Worker", name := "<init>", desc := "()V" } : Jvm.MethodName)) ∈ lw_all := lw_g (lw_at lw_m3 234 rfl) rfl
theorem q979 : (Jvm.Cond.code ({ cls := "ResourceLedger$Worker", name := "<init>", desc := "()V" } : Jvm.MethodName) prog_25_method_1_code (2 : Nat) (Option.none : Option Jvm.ClassFile.FieldType)) ∈ lw_all := lw_g (lw_at lw_m3 235 rfl) rfl
theorem q980 : (Jvm.Cond.methodLink "ResourceLedger$Worker" (3 : Nat) ({ cls := "java/lang/Object", name := "<init>", desc := "()V" } : Jvm.MethodName)) ∈ lw_all := lw_g (lw_at lw_m3 236 rfl) rfl
theorem q981 : (Jvm.Cond.classLink "ResourceLedger$Worker" (9 : Nat) "ResourceLedger$Frame") ∈ lw_all := lw_g (lw_at lw_m3 237 rfl) rfl
theorem q983 : (Jvm.Cond.classLink "ResourceLedger$Worker" (17 : Nat) "ResourceLedger$Entries") ∈ lw_all := lw_g (lw_at lw_m3 239 rfl) rfl
theorem q984 : (Jvm.Cond.methodLink "ResourceLedger$Worker" (19 : Nat) ({ cls := "ResourceLedger$Entries", name := "<init>", desc := "(I)V" } : Jvm.MethodName)) ∈ lw_all := lw_g (lw_at lw_m4 0 rfl) rfl
theorem q986 : (Jvm.Cond.methodLinkNest "ResourceLedger$Worker" (26 : Nat) ({ cls := "ResourceLedger$Frame", name := "<init>", desc := "()V" } : Jvm.MethodName) "ResourceLedger") ∈ lw_tbl := lw_at lw_m4 2 rfl
theorem q996 : (Jvm.Cond.fieldLinkNest "ResourceLedger$Worker" (35 : Nat) "ResourceLedger$Frame" "locals" "[LResourceLedger$Value;" "ResourceLedger") ∈ lw_tbl := lw_at lw_m4 12 rfl
theorem q999 : (Jvm.Cond.fieldLinkNest "ResourceLedger$Worker" (48 : Nat) "ResourceLedger$Frame" "stack" "[LResourceLedger$Value;" "ResourceLedger") ∈ lw_tbl := lw_at lw_m4 15 rfl
theorem q1001 : (Jvm.Cond.fieldLinkNest "ResourceLedger$Worker" (45 : Nat) "ResourceLedger$Frame" "height" "I" "ResourceLedger") ∈ lw_tbl := lw_at lw_m4 17 rfl
theorem q1021 : (Jvm.Cond.fieldLink "ResourceLedger$Worker" (11 : Nat) "ResourceLedger$Worker" "frames" "[LResourceLedger$Frame;") ∈ lw_all := lw_g (lw_at lw_m4 37 rfl) rfl
theorem q1023 : (Jvm.Cond.fieldLink "ResourceLedger$Worker" (27 : Nat) "ResourceLedger$Worker" "depth" "I") ∈ lw_all := lw_g (lw_at lw_m4 39 rfl) rfl
theorem q1026 : (Jvm.Cond.fieldLink "ResourceLedger$Worker" (22 : Nat) "ResourceLedger$Worker" "entries" "LResourceLedger$Entries;") ∈ lw_all := lw_g (lw_at lw_m4 42 rfl) rfl
theorem q1031 : (Jvm.Cond.lays "ResourceLedger$Worker" "ResourceLedger$Worker" "task" "I") ∈ lw_all := lw_g (lw_at lw_m4 47 rfl) rfl
theorem q1032 : (Jvm.Cond.soleField "ResourceLedger$Worker" "task") ∈ lw_all := lw_g (lw_at lw_m4 48 rfl) rfl
theorem q1033 : (Jvm.Cond.lays "ResourceLedger$Worker" "ResourceLedger$Worker" "t" "I") ∈ lw_all := lw_g (lw_at lw_m4 49 rfl) rfl
theorem q1034 : (Jvm.Cond.soleField "ResourceLedger$Worker" "t") ∈ lw_all := lw_g (lw_at lw_m4 50 rfl) rfl
theorem q1035 : (Jvm.Cond.lays "ResourceLedger$Worker" "ResourceLedger$Worker" "run" "I") ∈ lw_all := lw_g (lw_at lw_m4 51 rfl) rfl
theorem q1036 : (Jvm.Cond.soleField "ResourceLedger$Worker" "run") ∈ lw_all := lw_g (lw_at lw_m4 52 rfl) rfl
theorem q1037 : (Jvm.Cond.lays "ResourceLedger$Worker" "ResourceLedger$Worker" "looked" "I") ∈ lw_all := lw_g (lw_at lw_m4 53 rfl) rfl
theorem q1038 : (Jvm.Cond.soleField "ResourceLedger$Worker" "looked") ∈ lw_all := lw_g (lw_at lw_m4 54 rfl) rfl
theorem q1039 : (Jvm.Cond.lays "ResourceLedger$Worker" "ResourceLedger$Worker" "begun" "Z") ∈ lw_all := lw_g (lw_at lw_m4 55 rfl) rfl
theorem q1040 : (Jvm.Cond.soleField "ResourceLedger$Worker" "begun") ∈ lw_all := lw_g (lw_at lw_m4 56 rfl) rfl
theorem q1041 : (Jvm.Cond.laysFinal "ResourceLedger$Worker" "ResourceLedger$Worker" "frames" "[LResourceLedger$Frame;") ∈ lw_all := lw_g (lw_at lw_m4 57 rfl) rfl
theorem q1042 : (Jvm.Cond.soleField "ResourceLedger$Worker" "frames") ∈ lw_all := lw_g (lw_at lw_m4 58 rfl) rfl
theorem q1043 : (Jvm.Cond.lays "ResourceLedger$Worker" "ResourceLedger$Worker" "depth" "I") ∈ lw_all := lw_g (lw_at lw_m4 59 rfl) rfl
theorem q1044 : (Jvm.Cond.soleField "ResourceLedger$Worker" "depth") ∈ lw_all := lw_g (lw_at lw_m4 60 rfl) rfl
theorem q1045 : (Jvm.Cond.lays "ResourceLedger$Worker" "ResourceLedger$Worker" "gas" "I") ∈ lw_all := lw_g (lw_at lw_m4 61 rfl) rfl
theorem q1046 : (Jvm.Cond.soleField "ResourceLedger$Worker" "gas") ∈ lw_all := lw_g (lw_at lw_m4 62 rfl) rfl
theorem q1047 : (Jvm.Cond.laysFinal "ResourceLedger$Worker" "ResourceLedger$Worker" "entries" "LResourceLedger$Entries;") ∈ lw_all := lw_g (lw_at lw_m4 63 rfl) rfl
theorem q1048 : (Jvm.Cond.soleField "ResourceLedger$Worker" "entries") ∈ lw_all := lw_g (lw_at lw_m4 64 rfl) rfl
theorem q1049 : (Jvm.Cond.lays "ResourceLedger$Worker" "ResourceLedger$Worker" "asked" "I") ∈ lw_all := lw_g (lw_at lw_m4 65 rfl) rfl
theorem q1050 : (Jvm.Cond.soleField "ResourceLedger$Worker" "asked") ∈ lw_all := lw_g (lw_at lw_m4 66 rfl) rfl
theorem q1051 : (Jvm.Cond.lays "ResourceLedger$Worker" "ResourceLedger$Worker" "balance" "J") ∈ lw_all := lw_g (lw_at lw_m4 67 rfl) rfl
theorem q1052 : (Jvm.Cond.soleField "ResourceLedger$Worker" "balance") ∈ lw_all := lw_g (lw_at lw_m4 68 rfl) rfl
theorem q1053 : (Jvm.Cond.lays "ResourceLedger$Worker" "ResourceLedger$Worker" "sequence" "J") ∈ lw_all := lw_g (lw_at lw_m4 69 rfl) rfl
theorem q1054 : (Jvm.Cond.soleField "ResourceLedger$Worker" "sequence") ∈ lw_all := lw_g (lw_at lw_m4 70 rfl) rfl
theorem q1055 : (Jvm.Cond.superclass "ResourceLedger$Worker" "java/lang/Object") ∈ lw_all := lw_g (lw_at lw_m4 71 rfl) rfl
theorem q1438 : (Jvm.Cond.instanceMethod ({ cls := "ResourceLedger$Worker", name := "frame", desc := "()LResourceLedger$Frame;" } : Jvm.MethodName)) ∈ lw_all := lw_g (lw_at lw_m5 214 rfl) rfl
theorem q1439 : (Jvm.Cond.selects "ResourceLedger$Worker" ({ cls := "ResourceLedger$Worker", name := "frame", desc := "()LResourceLedger$Frame;" } : Jvm.MethodName) ({ cls := "ResourceLedger$Worker", name := "frame", desc := "()LResourceLedger$Frame;" } : Jvm.MethodName)) ∈ lw_all := lw_g (lw_at lw_m5 215 rfl) rfl
theorem q1440 : (Jvm.Cond.code ({ cls := "ResourceLedger$Worker", name := "frame", desc := "()LResourceLedger$Frame;" } : Jvm.MethodName) prog_25_method_2_code (1 : Nat) (Option.some (Jvm.ClassFile.FieldType.object "ResourceLedger$Frame"))) ∈ lw_all := lw_g (lw_at lw_m5 216 rfl) rfl
theorem q2068 : (Jvm.Cond.instanceMethod ({ cls := "ResourceLedger$Worker", name := "clear", desc := "(LResourceLedger$Pool;)V" } : Jvm.MethodName)) ∈ lw_all := lw_g (lw_at lw_m8 124 rfl) rfl
theorem q2069 : (Jvm.Cond.selects "ResourceLedger$Worker" ({ cls := "ResourceLedger$Worker", name := "clear", desc := "(LResourceLedger$Pool;)V" } : Jvm.MethodName) ({ cls := "ResourceLedger$Worker", name := "clear", desc := "(LResourceLedger$Pool;)V" } : Jvm.MethodName)) ∈ lw_all := lw_g (lw_at lw_m8 125 rfl) rfl
theorem q2070 : (Jvm.Cond.code ({ cls := "ResourceLedger$Worker", name := "clear", desc := "(LResourceLedger$Pool;)V" } : Jvm.MethodName) prog_25_method_3_code (4 : Nat) (Option.none : Option Jvm.ClassFile.FieldType)) ∈ lw_all := lw_g (lw_at lw_m8 126 rfl) rfl
theorem q2071 : (Jvm.Cond.methodLink "ResourceLedger$Worker" (31 : Nat) ({ cls := "ResourceLedger$Worker", name := "frame", desc := "()LResourceLedger$Frame;" } : Jvm.MethodName)) ∈ lw_all := lw_g (lw_at lw_m8 127 rfl) rfl
theorem q2072 : (Jvm.Cond.methodLink "ResourceLedger$Worker" (39 : Nat) ({ cls := "ResourceLedger$Pool", name := "drop", desc := "(LResourceLedger$Pool;LResourceLedger$Value;)V" } : Jvm.MethodName)) ∈ lw_all := lw_g (lw_at lw_m8 128 rfl) rfl
theorem in_X20 : ∀ w ∈ wsX200, w ∈ lw_all := lw_in wsX200 [1031, 1033, 1035, 1037, 1039, 1041, 1043, 1045, 1047, 1049, 1051, 1053] (by decide +kernel) (by decide +kernel)
end
section
-- ResourceLedger$Frame
set_option maxRecDepth 100000
def RX21 : String := "ResourceLedger$Frame"
def TX21 : u_T := fun k => match k with
  | 0 => ("ResourceLedger$Frame", "module", "LResourceLedger$Module;", false)
  | 1 => ("ResourceLedger$Frame", "function", "LResourceLedger$Function;", false)
  | 2 => ("ResourceLedger$Frame", "at", "I", false)
  | 3 => ("ResourceLedger$Frame", "locals", "[LResourceLedger$Value;", true)
  | 4 => ("ResourceLedger$Frame", "stack", "[LResourceLedger$Value;", true)
  | _ => ("ResourceLedger$Frame", "height", "I", false)
def tyX21 : Nat → FieldType := fun k => match k with
  | 0 => .object "ResourceLedger$Module"
  | 1 => .object "ResourceLedger$Function"
  | 2 => .int
  | 3 => .array (.object "ResourceLedger$Value")
  | 4 => .array (.object "ResourceLedger$Value")
  | _ => .int
abbrev wsX210 : List Cond := u_ws RX21 TX21 6
theorem nmX21 : ∀ a, a < 6 → ∀ b, b < 6 → a ≠ b → (TX21 a).2.1 ≠ (TX21 b).2.1 := by decide +kernel
theorem tyX21_ok : ∀ k, k < 6 → parseFieldDescriptor (TX21 k).2.2.1 = some (tyX21 k) := by decide +kernel
abbrev cX21_init : ByteArray := prog_8_method_1_code
def yX21_init : MethodName := ⟨RX21, "<init>", "()V"⟩
theorem q291 : (Jvm.Cond.initialized "ResourceLedger$Frame") ∈ lw_all := lw_g (lw_at lw_m1 27 rfl) rfl
theorem q985 : (Jvm.Cond.instantiable "ResourceLedger$Frame" (6 : Nat)) ∈ lw_all := lw_g (lw_at lw_m4 1 rfl) rfl
theorem q987 : (Jvm.Cond.instanceMethod ({ cls := "ResourceLedger$Frame", name := "<init>", desc := "()V" } : Jvm.MethodName)) ∈ lw_all := lw_g (lw_at lw_m4 3 rfl) rfl
theorem q988 : (Jvm.Cond.code ({ cls := "ResourceLedger$Frame", name := "<init>", desc := "()V" } : Jvm.MethodName) prog_8_method_1_code (1 : Nat) (Option.none : Option Jvm.ClassFile.FieldType)) ∈ lw_all := lw_g (lw_at lw_m4 4 rfl) rfl
theorem q989 : (Jvm.Cond.methodLink "ResourceLedger$Frame" (1 : Nat) ({ cls := "java/lang/Object", name := "<init>", desc := "()V" } : Jvm.MethodName)) ∈ lw_all := lw_g (lw_at lw_m4 5 rfl) rfl
theorem q990 : (Jvm.Cond.classLink "ResourceLedger$Frame" (7 : Nat) "ResourceLedger$Value") ∈ lw_all := lw_g (lw_at lw_m4 6 rfl) rfl
theorem q995 : (Jvm.Cond.fieldLink "ResourceLedger$Frame" (9 : Nat) "ResourceLedger$Frame" "locals" "[LResourceLedger$Value;") ∈ lw_all := lw_g (lw_at lw_m4 11 rfl) rfl
theorem q998 : (Jvm.Cond.fieldLink "ResourceLedger$Frame" (15 : Nat) "ResourceLedger$Frame" "stack" "[LResourceLedger$Value;") ∈ lw_all := lw_g (lw_at lw_m4 14 rfl) rfl
theorem q1003 : (Jvm.Cond.lays "ResourceLedger$Frame" "ResourceLedger$Frame" "module" "LResourceLedger$Module;") ∈ lw_all := lw_g (lw_at lw_m4 19 rfl) rfl
theorem q1004 : (Jvm.Cond.soleField "ResourceLedger$Frame" "module") ∈ lw_all := lw_g (lw_at lw_m4 20 rfl) rfl
theorem q1005 : (Jvm.Cond.lays "ResourceLedger$Frame" "ResourceLedger$Frame" "function" "LResourceLedger$Function;") ∈ lw_all := lw_g (lw_at lw_m4 21 rfl) rfl
theorem q1006 : (Jvm.Cond.soleField "ResourceLedger$Frame" "function") ∈ lw_all := lw_g (lw_at lw_m4 22 rfl) rfl
theorem q1007 : (Jvm.Cond.lays "ResourceLedger$Frame" "ResourceLedger$Frame" "at" "I") ∈ lw_all := lw_g (lw_at lw_m4 23 rfl) rfl
theorem q1008 : (Jvm.Cond.soleField "ResourceLedger$Frame" "at") ∈ lw_all := lw_g (lw_at lw_m4 24 rfl) rfl
theorem q1009 : (Jvm.Cond.laysFinal "ResourceLedger$Frame" "ResourceLedger$Frame" "locals" "[LResourceLedger$Value;") ∈ lw_all := lw_g (lw_at lw_m4 25 rfl) rfl
theorem q1010 : (Jvm.Cond.soleField "ResourceLedger$Frame" "locals") ∈ lw_all := lw_g (lw_at lw_m4 26 rfl) rfl
theorem q1011 : (Jvm.Cond.laysFinal "ResourceLedger$Frame" "ResourceLedger$Frame" "stack" "[LResourceLedger$Value;") ∈ lw_all := lw_g (lw_at lw_m4 27 rfl) rfl
theorem q1012 : (Jvm.Cond.soleField "ResourceLedger$Frame" "stack") ∈ lw_all := lw_g (lw_at lw_m4 28 rfl) rfl
theorem q1013 : (Jvm.Cond.lays "ResourceLedger$Frame" "ResourceLedger$Frame" "height" "I") ∈ lw_all := lw_g (lw_at lw_m4 29 rfl) rfl
theorem q1014 : (Jvm.Cond.soleField "ResourceLedger$Frame" "height") ∈ lw_all := lw_g (lw_at lw_m4 30 rfl) rfl
theorem q1015 : (Jvm.Cond.superclass "ResourceLedger$Frame" "java/lang/Object") ∈ lw_all := lw_g (lw_at lw_m4 31 rfl) rfl
theorem in_X21 : ∀ w ∈ wsX210, w ∈ lw_all := lw_in wsX210 [1003, 1005, 1007, 1009, 1011, 1013] (by decide +kernel) (by decide +kernel)
end
section
-- ResourceLedger$Transaction
set_option maxRecDepth 100000
def RX22 : String := "ResourceLedger$Transaction"
def TX22 : u_T := fun k => match k with
  | 0 => ("ResourceLedger$Transaction", "publishes", "Z", false)
  | 1 => ("ResourceLedger$Transaction", "sender", "J", false)
  | 2 => ("ResourceLedger$Transaction", "sequence", "J", false)
  | 3 => ("ResourceLedger$Transaction", "limit", "I", false)
  | 4 => ("ResourceLedger$Transaction", "moduleNumber", "I", false)
  | 5 => ("ResourceLedger$Transaction", "function", "I", false)
  | 6 => ("ResourceLedger$Transaction", "types", "[I", true)
  | 7 => ("ResourceLedger$Transaction", "highs", "[J", true)
  | 8 => ("ResourceLedger$Transaction", "lows", "[J", true)
  | 9 => ("ResourceLedger$Transaction", "arguments", "I", false)
  | 10 => ("ResourceLedger$Transaction", "module", "LResourceLedger$Module;", false)
  | 11 => ("ResourceLedger$Transaction", "fault", "I", false)
  | 12 => ("ResourceLedger$Transaction", "faultPlace", "I", false)
  | 13 => ("ResourceLedger$Transaction", "done", "Z", false)
  | 14 => ("ResourceLedger$Transaction", "state", "I", false)
  | 15 => ("ResourceLedger$Transaction", "run", "I", false)
  | 16 => ("ResourceLedger$Transaction", "holder", "I", false)
  | 17 => ("ResourceLedger$Transaction", "left", "LResourceLedger$Entries;", true)
  | 18 => ("ResourceLedger$Transaction", "read", "LResourceLedger$Entries;", true)
  | 19 => ("ResourceLedger$Transaction", "outcome", "I", false)
  | 20 => ("ResourceLedger$Transaction", "code", "J", false)
  | 21 => ("ResourceLedger$Transaction", "place", "I", false)
  | 22 => ("ResourceLedger$Transaction", "used", "I", false)
  | 23 => ("ResourceLedger$Transaction", "resultHighs", "[J", true)
  | 24 => ("ResourceLedger$Transaction", "resultLows", "[J", true)
  | 25 => ("ResourceLedger$Transaction", "resultTypes", "[I", true)
  | _ => ("ResourceLedger$Transaction", "results", "I", false)
def tyX22 : Nat → FieldType := fun k => match k with
  | 0 => .boolean
  | 1 => .long
  | 2 => .long
  | 3 => .int
  | 4 => .int
  | 5 => .int
  | 6 => .array .int
  | 7 => .array .long
  | 8 => .array .long
  | 9 => .int
  | 10 => .object "ResourceLedger$Module"
  | 11 => .int
  | 12 => .int
  | 13 => .boolean
  | 14 => .int
  | 15 => .int
  | 16 => .int
  | 17 => .object "ResourceLedger$Entries"
  | 18 => .object "ResourceLedger$Entries"
  | 19 => .int
  | 20 => .long
  | 21 => .int
  | 22 => .int
  | 23 => .array .long
  | 24 => .array .long
  | 25 => .array .int
  | _ => .int
abbrev wsX220 : List Cond := u_ws RX22 TX22 27
set_option maxRecDepth 100000 in
theorem nmX22 : ∀ a, a < 27 → ∀ b, b < 27 → a ≠ b → (TX22 a).2.1 ≠ (TX22 b).2.1 := by decide +kernel
set_option maxRecDepth 100000 in
theorem tyX22_ok : ∀ k, k < 27 → parseFieldDescriptor (TX22 k).2.2.1 = some (tyX22 k) := by decide +kernel
abbrev cX22_init : ByteArray := prog_20_method_1_code
def yX22_init : MethodName := ⟨RX22, "<init>", "()V"⟩
theorem q292 : (Jvm.Cond.initialized "ResourceLedger$Transaction") ∈ lw_all := lw_g (lw_at lw_m1 28 rfl) rfl
theorem q1056 : (Jvm.Cond.instantiable "ResourceLedger$Transaction" (27 : Nat)) ∈ lw_all := lw_g (lw_at lw_m4 72 rfl) rfl
theorem q1058 : (Jvm.Cond.instanceMethod ({ cls := "ResourceLedger$Transaction", name := "<init>", desc := "()V" } : Jvm.MethodName)) ∈ lw_all := lw_g (lw_at lw_m4 74 rfl) rfl
theorem q1059 : (Jvm.Cond.code ({ cls := "ResourceLedger$Transaction", name := "<init>", desc := "()V" } : Jvm.MethodName) prog_20_method_1_code (1 : Nat) (Option.none : Option Jvm.ClassFile.FieldType)) ∈ lw_all := lw_g (lw_at lw_m4 75 rfl) rfl
theorem q1060 : (Jvm.Cond.methodLink "ResourceLedger$Transaction" (1 : Nat) ({ cls := "java/lang/Object", name := "<init>", desc := "()V" } : Jvm.MethodName)) ∈ lw_all := lw_g (lw_at lw_m4 76 rfl) rfl
theorem q1061 : (Jvm.Cond.classLink "ResourceLedger$Transaction" (20 : Nat) "ResourceLedger$Module") ∈ lw_all := lw_g (lw_at lw_m4 77 rfl) rfl
theorem q1062 : (Jvm.Cond.methodLinkNest "ResourceLedger$Transaction" (22 : Nat) ({ cls := "ResourceLedger$Module", name := "<init>", desc := "()V" } : Jvm.MethodName) "ResourceLedger") ∈ lw_tbl := lw_at lw_m4 78 rfl
theorem q1063 : (Jvm.Cond.classLink "ResourceLedger$Transaction" (27 : Nat) "ResourceLedger$Entries") ∈ lw_all := lw_g (lw_at lw_m4 79 rfl) rfl
theorem q1064 : (Jvm.Cond.methodLink "ResourceLedger$Transaction" (29 : Nat) ({ cls := "ResourceLedger$Entries", name := "<init>", desc := "(I)V" } : Jvm.MethodName)) ∈ lw_all := lw_g (lw_at lw_m4 80 rfl) rfl
theorem q1071 : (Jvm.Cond.fieldLink "ResourceLedger$Transaction" (7 : Nat) "ResourceLedger$Transaction" "types" "[I") ∈ lw_all := lw_g (lw_at lw_m4 87 rfl) rfl
theorem q1073 : (Jvm.Cond.fieldLink "ResourceLedger$Transaction" (13 : Nat) "ResourceLedger$Transaction" "highs" "[J") ∈ lw_all := lw_g (lw_at lw_m4 89 rfl) rfl
theorem q1075 : (Jvm.Cond.fieldLink "ResourceLedger$Transaction" (17 : Nat) "ResourceLedger$Transaction" "lows" "[J") ∈ lw_all := lw_g (lw_at lw_m4 91 rfl) rfl
theorem q1078 : (Jvm.Cond.fieldLink "ResourceLedger$Transaction" (23 : Nat) "ResourceLedger$Transaction" "module" "LResourceLedger$Module;") ∈ lw_all := lw_g (lw_at lw_m4 94 rfl) rfl
theorem q1086 : (Jvm.Cond.fieldLink "ResourceLedger$Transaction" (32 : Nat) "ResourceLedger$Transaction" "left" "LResourceLedger$Entries;") ∈ lw_all := lw_g (lw_at lw_m4 102 rfl) rfl
theorem q1088 : (Jvm.Cond.fieldLink "ResourceLedger$Transaction" (36 : Nat) "ResourceLedger$Transaction" "read" "LResourceLedger$Entries;") ∈ lw_all := lw_g (lw_at lw_m4 104 rfl) rfl
theorem q1094 : (Jvm.Cond.fieldLink "ResourceLedger$Transaction" (39 : Nat) "ResourceLedger$Transaction" "resultHighs" "[J") ∈ lw_all := lw_g (lw_at lw_m4 110 rfl) rfl
theorem q1096 : (Jvm.Cond.fieldLink "ResourceLedger$Transaction" (42 : Nat) "ResourceLedger$Transaction" "resultLows" "[J") ∈ lw_all := lw_g (lw_at lw_m4 112 rfl) rfl
theorem q1098 : (Jvm.Cond.fieldLink "ResourceLedger$Transaction" (45 : Nat) "ResourceLedger$Transaction" "resultTypes" "[I") ∈ lw_all := lw_g (lw_at lw_m4 114 rfl) rfl
theorem q1101 : (Jvm.Cond.lays "ResourceLedger$Transaction" "ResourceLedger$Transaction" "publishes" "Z") ∈ lw_all := lw_g (lw_at lw_m4 117 rfl) rfl
theorem q1102 : (Jvm.Cond.soleField "ResourceLedger$Transaction" "publishes") ∈ lw_all := lw_g (lw_at lw_m4 118 rfl) rfl
theorem q1103 : (Jvm.Cond.lays "ResourceLedger$Transaction" "ResourceLedger$Transaction" "sender" "J") ∈ lw_all := lw_g (lw_at lw_m4 119 rfl) rfl
theorem q1104 : (Jvm.Cond.soleField "ResourceLedger$Transaction" "sender") ∈ lw_all := lw_g (lw_at lw_m4 120 rfl) rfl
theorem q1105 : (Jvm.Cond.lays "ResourceLedger$Transaction" "ResourceLedger$Transaction" "sequence" "J") ∈ lw_all := lw_g (lw_at lw_m4 121 rfl) rfl
theorem q1106 : (Jvm.Cond.soleField "ResourceLedger$Transaction" "sequence") ∈ lw_all := lw_g (lw_at lw_m4 122 rfl) rfl
theorem q1107 : (Jvm.Cond.lays "ResourceLedger$Transaction" "ResourceLedger$Transaction" "limit" "I") ∈ lw_all := lw_g (lw_at lw_m4 123 rfl) rfl
theorem q1108 : (Jvm.Cond.soleField "ResourceLedger$Transaction" "limit") ∈ lw_all := lw_g (lw_at lw_m4 124 rfl) rfl
theorem q1109 : (Jvm.Cond.lays "ResourceLedger$Transaction" "ResourceLedger$Transaction" "moduleNumber" "I") ∈ lw_all := lw_g (lw_at lw_m4 125 rfl) rfl
theorem q1110 : (Jvm.Cond.soleField "ResourceLedger$Transaction" "moduleNumber") ∈ lw_all := lw_g (lw_at lw_m4 126 rfl) rfl
theorem q1111 : (Jvm.Cond.lays "ResourceLedger$Transaction" "ResourceLedger$Transaction" "function" "I") ∈ lw_all := lw_g (lw_at lw_m4 127 rfl) rfl
theorem q1112 : (Jvm.Cond.soleField "ResourceLedger$Transaction" "function") ∈ lw_all := lw_g (lw_at lw_m4 128 rfl) rfl
theorem q1113 : (Jvm.Cond.laysFinal "ResourceLedger$Transaction" "ResourceLedger$Transaction" "types" "[I") ∈ lw_all := lw_g (lw_at lw_m4 129 rfl) rfl
theorem q1114 : (Jvm.Cond.soleField "ResourceLedger$Transaction" "types") ∈ lw_all := lw_g (lw_at lw_m4 130 rfl) rfl
theorem q1115 : (Jvm.Cond.laysFinal "ResourceLedger$Transaction" "ResourceLedger$Transaction" "highs" "[J") ∈ lw_all := lw_g (lw_at lw_m4 131 rfl) rfl
theorem q1116 : (Jvm.Cond.soleField "ResourceLedger$Transaction" "highs") ∈ lw_all := lw_g (lw_at lw_m4 132 rfl) rfl
theorem q1117 : (Jvm.Cond.laysFinal "ResourceLedger$Transaction" "ResourceLedger$Transaction" "lows" "[J") ∈ lw_all := lw_g (lw_at lw_m4 133 rfl) rfl
theorem q1118 : (Jvm.Cond.soleField "ResourceLedger$Transaction" "lows") ∈ lw_all := lw_g (lw_at lw_m4 134 rfl) rfl
theorem q1119 : (Jvm.Cond.lays "ResourceLedger$Transaction" "ResourceLedger$Transaction" "arguments" "I") ∈ lw_all := lw_g (lw_at lw_m4 135 rfl) rfl
theorem q1120 : (Jvm.Cond.soleField "ResourceLedger$Transaction" "arguments") ∈ lw_all := lw_g (lw_at lw_m4 136 rfl) rfl
theorem q1121 : (Jvm.Cond.lays "ResourceLedger$Transaction" "ResourceLedger$Transaction" "module" "LResourceLedger$Module;") ∈ lw_all := lw_g (lw_at lw_m4 137 rfl) rfl
theorem q1122 : (Jvm.Cond.soleField "ResourceLedger$Transaction" "module") ∈ lw_all := lw_g (lw_at lw_m4 138 rfl) rfl
theorem q1123 : (Jvm.Cond.lays "ResourceLedger$Transaction" "ResourceLedger$Transaction" "fault" "I") ∈ lw_all := lw_g (lw_at lw_m4 139 rfl) rfl
theorem q1124 : (Jvm.Cond.soleField "ResourceLedger$Transaction" "fault") ∈ lw_all := lw_g (lw_at lw_m4 140 rfl) rfl
theorem q1125 : (Jvm.Cond.lays "ResourceLedger$Transaction" "ResourceLedger$Transaction" "faultPlace" "I") ∈ lw_all := lw_g (lw_at lw_m4 141 rfl) rfl
theorem q1126 : (Jvm.Cond.soleField "ResourceLedger$Transaction" "faultPlace") ∈ lw_all := lw_g (lw_at lw_m4 142 rfl) rfl
theorem q1127 : (Jvm.Cond.lays "ResourceLedger$Transaction" "ResourceLedger$Transaction" "done" "Z") ∈ lw_all := lw_g (lw_at lw_m4 143 rfl) rfl
theorem q1128 : (Jvm.Cond.soleField "ResourceLedger$Transaction" "done") ∈ lw_all := lw_g (lw_at lw_m4 144 rfl) rfl
theorem q1129 : (Jvm.Cond.lays "ResourceLedger$Transaction" "ResourceLedger$Transaction" "state" "I") ∈ lw_all := lw_g (lw_at lw_m4 145 rfl) rfl
theorem q1130 : (Jvm.Cond.soleField "ResourceLedger$Transaction" "state") ∈ lw_all := lw_g (lw_at lw_m4 146 rfl) rfl
theorem q1131 : (Jvm.Cond.lays "ResourceLedger$Transaction" "ResourceLedger$Transaction" "run" "I") ∈ lw_all := lw_g (lw_at lw_m4 147 rfl) rfl
theorem q1132 : (Jvm.Cond.soleField "ResourceLedger$Transaction" "run") ∈ lw_all := lw_g (lw_at lw_m4 148 rfl) rfl
theorem q1133 : (Jvm.Cond.lays "ResourceLedger$Transaction" "ResourceLedger$Transaction" "holder" "I") ∈ lw_all := lw_g (lw_at lw_m4 149 rfl) rfl
theorem q1134 : (Jvm.Cond.soleField "ResourceLedger$Transaction" "holder") ∈ lw_all := lw_g (lw_at lw_m4 150 rfl) rfl
theorem q1135 : (Jvm.Cond.laysFinal "ResourceLedger$Transaction" "ResourceLedger$Transaction" "left" "LResourceLedger$Entries;") ∈ lw_all := lw_g (lw_at lw_m4 151 rfl) rfl
theorem q1136 : (Jvm.Cond.soleField "ResourceLedger$Transaction" "left") ∈ lw_all := lw_g (lw_at lw_m4 152 rfl) rfl
theorem q1137 : (Jvm.Cond.laysFinal "ResourceLedger$Transaction" "ResourceLedger$Transaction" "read" "LResourceLedger$Entries;") ∈ lw_all := lw_g (lw_at lw_m4 153 rfl) rfl
theorem q1138 : (Jvm.Cond.soleField "ResourceLedger$Transaction" "read") ∈ lw_all := lw_g (lw_at lw_m4 154 rfl) rfl
theorem q1139 : (Jvm.Cond.lays "ResourceLedger$Transaction" "ResourceLedger$Transaction" "outcome" "I") ∈ lw_all := lw_g (lw_at lw_m4 155 rfl) rfl
theorem q1140 : (Jvm.Cond.soleField "ResourceLedger$Transaction" "outcome") ∈ lw_all := lw_g (lw_at lw_m4 156 rfl) rfl
theorem q1141 : (Jvm.Cond.lays "ResourceLedger$Transaction" "ResourceLedger$Transaction" "code" "J") ∈ lw_all := lw_g (lw_at lw_m4 157 rfl) rfl
theorem q1142 : (Jvm.Cond.soleField "ResourceLedger$Transaction" "code") ∈ lw_all := lw_g (lw_at lw_m4 158 rfl) rfl
theorem q1143 : (Jvm.Cond.lays "ResourceLedger$Transaction" "ResourceLedger$Transaction" "place" "I") ∈ lw_all := lw_g (lw_at lw_m4 159 rfl) rfl
theorem q1144 : (Jvm.Cond.soleField "ResourceLedger$Transaction" "place") ∈ lw_all := lw_g (lw_at lw_m4 160 rfl) rfl
theorem q1145 : (Jvm.Cond.lays "ResourceLedger$Transaction" "ResourceLedger$Transaction" "used" "I") ∈ lw_all := lw_g (lw_at lw_m4 161 rfl) rfl
theorem q1146 : (Jvm.Cond.soleField "ResourceLedger$Transaction" "used") ∈ lw_all := lw_g (lw_at lw_m4 162 rfl) rfl
theorem q1147 : (Jvm.Cond.laysFinal "ResourceLedger$Transaction" "ResourceLedger$Transaction" "resultHighs" "[J") ∈ lw_all := lw_g (lw_at lw_m4 163 rfl) rfl
theorem q1148 : (Jvm.Cond.soleField "ResourceLedger$Transaction" "resultHighs") ∈ lw_all := lw_g (lw_at lw_m4 164 rfl) rfl
theorem q1149 : (Jvm.Cond.laysFinal "ResourceLedger$Transaction" "ResourceLedger$Transaction" "resultLows" "[J") ∈ lw_all := lw_g (lw_at lw_m4 165 rfl) rfl
theorem q1150 : (Jvm.Cond.soleField "ResourceLedger$Transaction" "resultLows") ∈ lw_all := lw_g (lw_at lw_m4 166 rfl) rfl
theorem q1151 : (Jvm.Cond.laysFinal "ResourceLedger$Transaction" "ResourceLedger$Transaction" "resultTypes" "[I") ∈ lw_all := lw_g (lw_at lw_m4 167 rfl) rfl
theorem q1152 : (Jvm.Cond.soleField "ResourceLedger$Transaction" "resultTypes") ∈ lw_all := lw_g (lw_at lw_m4 168 rfl) rfl
theorem q1153 : (Jvm.Cond.lays "ResourceLedger$Transaction" "ResourceLedger$Transaction" "results" "I") ∈ lw_all := lw_g (lw_at lw_m4 169 rfl) rfl
theorem q1154 : (Jvm.Cond.soleField "ResourceLedger$Transaction" "results") ∈ lw_all := lw_g (lw_at lw_m4 170 rfl) rfl
theorem q1155 : (Jvm.Cond.superclass "ResourceLedger$Transaction" "java/lang/Object") ∈ lw_all := lw_g (lw_at lw_m4 171 rfl) rfl
theorem in_X22 : ∀ w ∈ wsX220, w ∈ lw_all := lw_in wsX220 [1101, 1103, 1105, 1107, 1109, 1111, 1113, 1115, 1117, 1119, 1121, 1123, 1125, 1127, 1129, 1131, 1133, 1135, 1137, 1139, 1141, 1143, 1145, 1147, 1149, 1151, 1153] (by decide +kernel) (by decide +kernel)
end
section
-- java/lang/Enum
set_option maxRecDepth 100000
def RJ6 : String := "java/lang/Enum"
abbrev cJ6_ordinal : ByteArray := prog_34_method_2_code
def yJ6_ordinal : MethodName := ⟨RJ6, "ordinal", "()I"⟩
theorem q293 : (Jvm.Cond.initialized "java/lang/Enum") ∈ lw_all := lw_g (lw_at lw_m1 29 rfl) rfl
theorem q1278 : (Jvm.Cond.declares ({ cls := "java/lang/Enum", name := "ordinal", desc := "()I" } : Jvm.MethodName)) ∈ lw_tbl := lw_at lw_m5 54 rfl
theorem q1280 : (Jvm.Cond.instanceMethod ({ cls := "java/lang/Enum", name := "ordinal", desc := "()I" } : Jvm.MethodName)) ∈ lw_all := lw_g (lw_at lw_m5 56 rfl) rfl
theorem q1281 : (Jvm.Cond.code ({ cls := "java/lang/Enum", name := "ordinal", desc := "()I" } : Jvm.MethodName) prog_34_method_2_code (1 : Nat) (Option.some Jvm.ClassFile.FieldType.int)) ∈ lw_all := lw_g (lw_at lw_m5 57 rfl) rfl
theorem q3747 : (Jvm.Cond.fieldLink "java/lang/Enum" (7 : Nat) "java/lang/Enum" "ordinal" "I") ∈ lw_all := lw_g (lw_at lw_m15 123 rfl) rfl
end
section
-- ResourceLedgerModel
set_option maxRecDepth 100000
def RX23 : String := "ResourceLedgerModel"
def TX23 : u_T := fun k => match k with
  | 0 => ("ResourceLedgerModel", "addresses", "[J", true)
  | 1 => ("ResourceLedgerModel", "balances", "[J", true)
  | 2 => ("ResourceLedgerModel", "sequences", "[J", true)
  | 3 => ("ResourceLedgerModel", "accounts", "I", false)
  | 4 => ("ResourceLedgerModel", "units", "[LResourceLedgerModel$Unit;", true)
  | 5 => ("ResourceLedgerModel", "modules", "I", false)
  | 6 => ("ResourceLedgerModel", "depths", "[I", true)
  | 7 => ("ResourceLedgerModel", "owners", "[J", true)
  | 8 => ("ResourceLedgerModel", "kindsOf", "[I", true)
  | 9 => ("ResourceLedgerModel", "resources", "I", false)
  | 10 => ("ResourceLedgerModel", "rowKinds", "[B", true)
  | 11 => ("ResourceLedgerModel", "rowHighs", "[J", true)
  | 12 => ("ResourceLedgerModel", "rowLows", "[J", true)
  | 13 => ("ResourceLedgerModel", "rowParts", "[I", true)
  | 14 => ("ResourceLedgerModel", "rowAt", "I", false)
  | 15 => ("ResourceLedgerModel", "trees", "LResourceLedgerModel$Trees;", true)
  | 16 => ("ResourceLedgerModel", "looker", "LResourceLedgerModel$Looker;", true)
  | 17 => ("ResourceLedgerModel", "wide", "LResourceLedgerModel$Wide;", true)
  | 18 => ("ResourceLedgerModel", "digester", "LResourceLedgerModel$Digester;", true)
  | 19 => ("ResourceLedgerModel", "roots", "LResourceLedgerModel$Roots;", true)
  | 20 => ("ResourceLedgerModel", "minted", "J", false)
  | 21 => ("ResourceLedgerModel", "burned", "J", false)
  | 22 => ("ResourceLedgerModel", "slips", "I", false)
  | 23 => ("ResourceLedgerModel", "faultPlace", "I", false)
  | 24 => ("ResourceLedgerModel", "sender", "J", false)
  | 25 => ("ResourceLedgerModel", "limit", "I", false)
  | 26 => ("ResourceLedgerModel", "gas", "I", false)
  | 27 => ("ResourceLedgerModel", "outcome", "I", false)
  | 28 => ("ResourceLedgerModel", "code", "J", false)
  | 29 => ("ResourceLedgerModel", "asked", "I", false)
  | 30 => ("ResourceLedgerModel", "askedSorts", "[I", true)
  | 31 => ("ResourceLedgerModel", "askedAddresses", "[J", true)
  | 32 => ("ResourceLedgerModel", "askedKinds", "[I", true)
  | 33 => ("ResourceLedgerModel", "askedBalances", "[J", true)
  | 34 => ("ResourceLedgerModel", "askedTrees", "[I", true)
  | 35 => ("ResourceLedgerModel", "askedThere", "[Z", true)
  | 36 => ("ResourceLedgerModel", "frames", "I", false)
  | 37 => ("ResourceLedgerModel", "frameUnits", "[I", true)
  | 38 => ("ResourceLedgerModel", "frameFunctions", "[I", true)
  | 39 => ("ResourceLedgerModel", "nexts", "[I", true)
  | 40 => ("ResourceLedgerModel", "bases", "[I", true)
  | 41 => ("ResourceLedgerModel", "locals", "[I", true)
  | 42 => ("ResourceLedgerModel", "localRefers", "[Z", true)
  | 43 => ("ResourceLedgerModel", "stack", "[I", true)
  | 44 => ("ResourceLedgerModel", "refers", "[Z", true)
  | 45 => ("ResourceLedgerModel", "height", "I", false)
  | 46 => ("ResourceLedgerModel", "taken", "I", false)
  | 47 => ("ResourceLedgerModel", "takenRefers", "Z", false)
  | 48 => ("ResourceLedgerModel", "unit", "LResourceLedgerModel$Unit;", false)
  | 49 => ("ResourceLedgerModel", "tape", "[B", true)
  | 50 => ("ResourceLedgerModel", "tapeSize", "I", false)
  | 51 => ("ResourceLedgerModel", "woven", "I", false)
  | 52 => ("ResourceLedgerModel", "count", "I", false)
  | 53 => ("ResourceLedgerModel", "done", "I", false)
  | 54 => ("ResourceLedgerModel", "sorts", "[I", true)
  | 55 => ("ResourceLedgerModel", "senders", "[J", true)
  | 56 => ("ResourceLedgerModel", "turns", "[J", true)
  | 57 => ("ResourceLedgerModel", "limits", "[I", true)
  | 58 => ("ResourceLedgerModel", "modulesCalled", "[I", true)
  | 59 => ("ResourceLedgerModel", "functionsCalled", "[I", true)
  | 60 => ("ResourceLedgerModel", "argumentCounts", "[I", true)
  | 61 => ("ResourceLedgerModel", "argumentTypes", "[B", true)
  | 62 => ("ResourceLedgerModel", "argumentHighs", "[J", true)
  | 63 => ("ResourceLedgerModel", "argumentLows", "[J", true)
  | 64 => ("ResourceLedgerModel", "published", "[B", true)
  | 65 => ("ResourceLedgerModel", "publishedSizes", "[I", true)
  | 66 => ("ResourceLedgerModel", "outcomes", "[I", true)
  | 67 => ("ResourceLedgerModel", "gases", "[I", true)
  | 68 => ("ResourceLedgerModel", "faultPlaces", "[I", true)
  | 69 => ("ResourceLedgerModel", "codes", "[J", true)
  | 70 => ("ResourceLedgerModel", "resultCounts", "[I", true)
  | 71 => ("ResourceLedgerModel", "resultTypes", "[B", true)
  | 72 => ("ResourceLedgerModel", "resultHighs", "[J", true)
  | 73 => ("ResourceLedgerModel", "resultLows", "[J", true)
  | 74 => ("ResourceLedgerModel", "shown", "[B", true)
  | 75 => ("ResourceLedgerModel", "shownSize", "I", false)
  | 76 => ("ResourceLedgerModel", "key", "[J", true)
  | _ => ("ResourceLedgerModel", "value", "[J", true)
def tyX23 : Nat → FieldType := fun k => match k with
  | 0 => .array .long
  | 1 => .array .long
  | 2 => .array .long
  | 3 => .int
  | 4 => .array (.object "ResourceLedgerModel$Unit")
  | 5 => .int
  | 6 => .array .int
  | 7 => .array .long
  | 8 => .array .int
  | 9 => .int
  | 10 => .array .byte
  | 11 => .array .long
  | 12 => .array .long
  | 13 => .array .int
  | 14 => .int
  | 15 => .object "ResourceLedgerModel$Trees"
  | 16 => .object "ResourceLedgerModel$Looker"
  | 17 => .object "ResourceLedgerModel$Wide"
  | 18 => .object "ResourceLedgerModel$Digester"
  | 19 => .object "ResourceLedgerModel$Roots"
  | 20 => .long
  | 21 => .long
  | 22 => .int
  | 23 => .int
  | 24 => .long
  | 25 => .int
  | 26 => .int
  | 27 => .int
  | 28 => .long
  | 29 => .int
  | 30 => .array .int
  | 31 => .array .long
  | 32 => .array .int
  | 33 => .array .long
  | 34 => .array .int
  | 35 => .array .boolean
  | 36 => .int
  | 37 => .array .int
  | 38 => .array .int
  | 39 => .array .int
  | 40 => .array .int
  | 41 => .array .int
  | 42 => .array .boolean
  | 43 => .array .int
  | 44 => .array .boolean
  | 45 => .int
  | 46 => .int
  | 47 => .boolean
  | 48 => .object "ResourceLedgerModel$Unit"
  | 49 => .array .byte
  | 50 => .int
  | 51 => .int
  | 52 => .int
  | 53 => .int
  | 54 => .array .int
  | 55 => .array .long
  | 56 => .array .long
  | 57 => .array .int
  | 58 => .array .int
  | 59 => .array .int
  | 60 => .array .int
  | 61 => .array .byte
  | 62 => .array .long
  | 63 => .array .long
  | 64 => .array .byte
  | 65 => .array .int
  | 66 => .array .int
  | 67 => .array .int
  | 68 => .array .int
  | 69 => .array .long
  | 70 => .array .int
  | 71 => .array .byte
  | 72 => .array .long
  | 73 => .array .long
  | 74 => .array .byte
  | 75 => .int
  | 76 => .array .long
  | _ => .array .long
abbrev wsX230 : List Cond := u_ws RX23 TX23 78
set_option maxRecDepth 100000 in
theorem nmX23 : ∀ a, a < 78 → ∀ b, b < 78 → a ≠ b → (TX23 a).2.1 ≠ (TX23 b).2.1 := by decide +kernel
set_option maxRecDepth 100000 in
theorem tyX23_ok : ∀ k, k < 78 → parseFieldDescriptor (TX23 k).2.2.1 = some (tyX23 k) := by decide +kernel
abbrev cX23_init : ByteArray := prog_27_method_59_code
def yX23_init : MethodName := ⟨RX23, "<init>", "(I)V"⟩
abbrev cX23_type : ByteArray := prog_27_method_60_code
def yX23_type : MethodName := ⟨RX23, "type", "(JI)I"⟩
abbrev cX23_mint : ByteArray := prog_27_method_61_code
def yX23_mint : MethodName := ⟨RX23, "mint", "(JJ)Z"⟩
abbrev cX23_findAccount : ByteArray := prog_27_method_2_code
def yX23_findAccount : MethodName := ⟨RX23, "findAccount", "(J)I"⟩
abbrev cX23_placeCount : ByteArray := prog_27_method_1_code
def yX23_placeCount : MethodName := ⟨RX23, "placeCount", "()I"⟩
abbrev cX23_newAccount : ByteArray := prog_27_method_62_code
def yX23_newAccount : MethodName := ⟨RX23, "newAccount", "(J)I"⟩
abbrev cX23_begin : ByteArray := prog_27_method_63_code
def yX23_begin : MethodName := ⟨RX23, "begin", "()I"⟩
abbrev cX23_publish : ByteArray := prog_27_method_66_code
def yX23_publish : MethodName := ⟨RX23, "publish", "(JJI)I"⟩
abbrev cX23_isLimit : ByteArray := prog_27_method_64_code
def yX23_isLimit : MethodName := ⟨RX23, "isLimit", "(I)Z"⟩
abbrev cX23_add : ByteArray := prog_27_method_65_code
def yX23_add : MethodName := ⟨RX23, "add", "(IJJI)I"⟩
abbrev cX23_call : ByteArray := prog_27_method_67_code
def yX23_call : MethodName := ⟨RX23, "call", "(JJIII)I"⟩
abbrev cX23_argument : ByteArray := prog_27_method_68_code
def yX23_argument : MethodName := ⟨RX23, "argument", "(IJJ)I"⟩
abbrev cX23_weave : ByteArray := prog_27_method_69_code
def yX23_weave : MethodName := ⟨RX23, "weave", "(J)I"⟩
abbrev cX23_unweave : ByteArray := prog_27_method_70_code
def yX23_unweave : MethodName := ⟨RX23, "unweave", "()I"⟩
abbrev cX23_execute : ByteArray := prog_27_method_71_code
def yX23_execute : MethodName := ⟨RX23, "execute", "()I"⟩
abbrev cX23_doOne : ByteArray := prog_27_method_72_code
def yX23_doOne : MethodName := ⟨RX23, "doOne", "(I)V"⟩
abbrev cX23_findModule : ByteArray := prog_27_method_3_code
def yX23_findModule : MethodName := ⟨RX23, "findModule", "(I)I"⟩
abbrev cX23_refusal : ByteArray := prog_27_method_73_code
def yX23_refusal : MethodName := ⟨RX23, "refusal", "(II)I"⟩
abbrev cX23_end : ByteArray := prog_27_method_29_code
def yX23_end : MethodName := ⟨RX23, "end", "(IJ)V"⟩
abbrev cX23_publishOne : ByteArray := prog_27_method_74_code
def yX23_publishOne : MethodName := ⟨RX23, "publishOne", "(I)V"⟩
abbrev cX23_spend : ByteArray := prog_27_method_30_code
def yX23_spend : MethodName := ⟨RX23, "spend", "(I)Z"⟩
abbrev cX23_goesOn : ByteArray := prog_27_method_28_code
def yX23_goesOn : MethodName := ⟨RX23, "goesOn", "()Z"⟩
abbrev cX23_takeModule : ByteArray := prog_27_method_26_code
def yX23_takeModule : MethodName := ⟨RX23, "takeModule", "([BIII)I"⟩
abbrev cX23_tell : ByteArray := prog_27_method_27_code
def yX23_tell : MethodName := ⟨RX23, "tell", "(II)I"⟩
abbrev cX23_isThere : ByteArray := prog_27_method_12_code
def yX23_isThere : MethodName := ⟨RX23, "isThere", "(IIZ)Z"⟩
abbrev cX23_abilitiesThere : ByteArray := prog_27_method_13_code
def yX23_abilitiesThere : MethodName := ⟨RX23, "abilitiesThere", "(II)I"⟩
abbrev cX23_isFunctionAs : ByteArray := prog_27_method_23_code
def yX23_isFunctionAs : MethodName := ⟨RX23, "isFunctionAs", "(LResourceLedgerModel$Unit;I)Z"⟩
abbrev cX23_flagsThere : ByteArray := prog_27_method_16_code
def yX23_flagsThere : MethodName := ⟨RX23, "flagsThere", "(II)I"⟩
abbrev cX23_isSameList : ByteArray := prog_27_method_22_code
def yX23_isSameList : MethodName := ⟨RX23, "isSameList", "(LResourceLedgerModel$Unit;IIII)Z"⟩
abbrev cX23_manyThere : ByteArray := prog_27_method_17_code
def yX23_manyThere : MethodName := ⟨RX23, "manyThere", "(III)I"⟩
abbrev cX23_coinMany : ByteArray := prog_27_method_15_code
def yX23_coinMany : MethodName := ⟨RX23, "coinMany", "(II)I"⟩
abbrev cX23_typeThere : ByteArray := prog_27_method_18_code
def yX23_typeThere : MethodName := ⟨RX23, "typeThere", "(IIII)J"⟩
abbrev cX23_coinType : ByteArray := prog_27_method_14_code
def yX23_coinType : MethodName := ⟨RX23, "coinType", "(III)J"⟩
abbrev cX23_isSame : ByteArray := prog_27_method_21_code
def yX23_isSame : MethodName := ⟨RX23, "isSame", "(LResourceLedgerModel$Unit;JIJ)Z"⟩
abbrev cX23_endsInStructure : ByteArray := prog_27_method_20_code
def yX23_endsInStructure : MethodName := ⟨RX23, "endsInStructure", "(J)Z"⟩
abbrev cX23_identityThere : ByteArray := prog_27_method_19_code
def yX23_identityThere : MethodName := ⟨RX23, "identityThere", "(II)I"⟩
abbrev cX23_measure : ByteArray := prog_27_method_24_code
def yX23_measure : MethodName := ⟨RX23, "measure", "(I)V"⟩
abbrev cX23_depthOf : ByteArray := prog_27_method_25_code
def yX23_depthOf : MethodName := ⟨RX23, "depthOf", "(IJ)I"⟩
abbrev cX23_callOne : ByteArray := prog_27_method_75_code
def yX23_callOne : MethodName := ⟨RX23, "callOne", "(III)V"⟩
abbrev cX23_ask : ByteArray := prog_27_method_31_code
def yX23_ask : MethodName := ⟨RX23, "ask", "(IJI)I"⟩
abbrev cX23_findResource : ByteArray := prog_27_method_4_code
def yX23_findResource : MethodName := ⟨RX23, "findResource", "(JI)I"⟩
abbrev cX23_load : ByteArray := prog_27_method_5_code
def yX23_load : MethodName := ⟨RX23, "load", "(I)I"⟩
abbrev cX23_loadOne : ByteArray := prog_27_method_6_code
def yX23_loadOne : MethodName := ⟨RX23, "loadOne", "()I"⟩
abbrev cX23_push : ByteArray := prog_27_method_32_code
def yX23_push : MethodName := ⟨RX23, "push", "(IZ)V"⟩
abbrev cX23_enter : ByteArray := prog_27_method_50_code
def yX23_enter : MethodName := ⟨RX23, "enter", "(III)V"⟩
abbrev cX23_local : ByteArray := prog_27_method_38_code
def yX23_local : MethodName := ⟨RX23, "local", "(I)I"⟩
abbrev cX23_one : ByteArray := prog_27_method_58_code
def yX23_one : MethodName := ⟨RX23, "one", "()V"⟩
abbrev cX23_slip : ByteArray := prog_27_method_34_code
def yX23_slip : MethodName := ⟨RX23, "slip", "()V"⟩
abbrev cX23_giveBack : ByteArray := prog_27_method_55_code
def yX23_giveBack : MethodName := ⟨RX23, "giveBack", "()V"⟩
abbrev cX23_branch : ByteArray := prog_27_method_56_code
def yX23_branch : MethodName := ⟨RX23, "branch", "(II)V"⟩
abbrev cX23_take : ByteArray := prog_27_method_36_code
def yX23_take : MethodName := ⟨RX23, "take", "(I)I"⟩
abbrev cX23_takeAny : ByteArray := prog_27_method_35_code
def yX23_takeAny : MethodName := ⟨RX23, "takeAny", "(Z)I"⟩
abbrev cX23_constant : ByteArray := prog_27_method_57_code
def yX23_constant : MethodName := ⟨RX23, "constant", "(IJJ)V"⟩
abbrev cX23_make : ByteArray := prog_27_method_33_code
def yX23_make : MethodName := ⟨RX23, "make", "(IJJ)V"⟩
abbrev cX23_onLocal : ByteArray := prog_27_method_40_code
def yX23_onLocal : MethodName := ⟨RX23, "onLocal", "(II)V"⟩
abbrev cX23_onReference : ByteArray := prog_27_method_41_code
def yX23_onReference : MethodName := ⟨RX23, "onReference", "(II)V"⟩
abbrev cX23_pack : ByteArray := prog_27_method_42_code
def yX23_pack : MethodName := ⟨RX23, "pack", "(I)V"⟩
abbrev cX23_unpack : ByteArray := prog_27_method_43_code
def yX23_unpack : MethodName := ⟨RX23, "unpack", "(I)V"⟩
abbrev cX23_enterCall : ByteArray := prog_27_method_51_code
def yX23_enterCall : MethodName := ⟨RX23, "enterCall", "(I)V"⟩
abbrev cX23_coin : ByteArray := prog_27_method_54_code
def yX23_coin : MethodName := ⟨RX23, "coin", "(I)V"⟩
abbrev cX23_takeLong : ByteArray := prog_27_method_37_code
def yX23_takeLong : MethodName := ⟨RX23, "takeLong", "()J"⟩
abbrev cX23_isBelow : ByteArray := prog_27_method_53_code
def yX23_isBelow : MethodName := ⟨RX23, "isBelow", "(JJ)Z"⟩
abbrev cX23_makeCoin : ByteArray := prog_27_method_52_code
def yX23_makeCoin : MethodName := ⟨RX23, "makeCoin", "(J)V"⟩
abbrev cX23_shift : ByteArray := prog_27_method_45_code
def yX23_shift : MethodName := ⟨RX23, "shift", "(Z)V"⟩
abbrev cX23_bitsOf : ByteArray := prog_27_method_39_code
def yX23_bitsOf : MethodName := ⟨RX23, "bitsOf", "(I)I"⟩
abbrev cX23_reckon : ByteArray := prog_27_method_44_code
def yX23_reckon : MethodName := ⟨RX23, "reckon", "(I)V"⟩
abbrev cX23_convert : ByteArray := prog_27_method_46_code
def yX23_convert : MethodName := ⟨RX23, "convert", "(I)V"⟩
abbrev cX23_onResource : ByteArray := prog_27_method_47_code
def yX23_onResource : MethodName := ⟨RX23, "onResource", "(II)V"⟩
abbrev cX23_onVector : ByteArray := prog_27_method_48_code
def yX23_onVector : MethodName := ⟨RX23, "onVector", "(II)V"⟩
abbrev cX23_digest : ByteArray := prog_27_method_49_code
def yX23_digest : MethodName := ⟨RX23, "digest", "()V"⟩
abbrev cX23_isTooMuch : ByteArray := prog_27_method_76_code
def yX23_isTooMuch : MethodName := ⟨RX23, "isTooMuch", "()Z"⟩
abbrev cX23_settle : ByteArray := prog_27_method_77_code
def yX23_settle : MethodName := ⟨RX23, "settle", "()V"⟩
abbrev cX23_removeResource : ByteArray := prog_27_method_9_code
def yX23_removeResource : MethodName := ⟨RX23, "removeResource", "(I)V"⟩
abbrev cX23_keep : ByteArray := prog_27_method_7_code
def yX23_keep : MethodName := ⟨RX23, "keep", "(II)V"⟩
abbrev cX23_keepOne : ByteArray := prog_27_method_8_code
def yX23_keepOne : MethodName := ⟨RX23, "keepOne", "(I)V"⟩
abbrev cX23_told : ByteArray := prog_27_method_79_code
def yX23_told : MethodName := ⟨RX23, "told", "(II)I"⟩
abbrev cX23_isDone : ByteArray := prog_27_method_78_code
def yX23_isDone : MethodName := ⟨RX23, "isDone", "(I)Z"⟩
abbrev cX23_code : ByteArray := prog_27_method_80_code
def yX23_code : MethodName := ⟨RX23, "code", "(I)J"⟩
abbrev cX23_result : ByteArray := prog_27_method_81_code
def yX23_result : MethodName := ⟨RX23, "result", "(III)J"⟩
abbrev cX23_account : ByteArray := prog_27_method_82_code
def yX23_account : MethodName := ⟨RX23, "account", "(JI)J"⟩
abbrev cX23_coins : ByteArray := prog_27_method_83_code
def yX23_coins : MethodName := ⟨RX23, "coins", "(I)J"⟩
abbrev cX23_coinsIn : ByteArray := prog_27_method_84_code
def yX23_coinsIn : MethodName := ⟨RX23, "coinsIn", "(I)J"⟩
abbrev cX23_places : ByteArray := prog_27_method_85_code
def yX23_places : MethodName := ⟨RX23, "places", "(I)I"⟩
abbrev cX23_resource : ByteArray := prog_27_method_86_code
def yX23_resource : MethodName := ⟨RX23, "resource", "(JII)I"⟩
abbrev cX23_addBytes : ByteArray := prog_27_method_10_code
def yX23_addBytes : MethodName := ⟨RX23, "addBytes", "(I)V"⟩
abbrev cX23_addOne : ByteArray := prog_27_method_11_code
def yX23_addOne : MethodName := ⟨RX23, "addOne", "()V"⟩
abbrev cX23_byteOf : ByteArray := prog_27_method_87_code
def yX23_byteOf : MethodName := ⟨RX23, "byteOf", "(I)I"⟩
abbrev cX23_root : ByteArray := prog_27_method_89_code
def yX23_root : MethodName := ⟨RX23, "root", "(I)J"⟩
abbrev cX23_keepFour : ByteArray := prog_27_method_88_code
def yX23_keepFour : MethodName := ⟨RX23, "keepFour", "([J)V"⟩
abbrev cX23_slips : ByteArray := prog_27_method_90_code
def yX23_slips : MethodName := ⟨RX23, "slips", "()I"⟩
theorem q295 : (Jvm.Cond.initialized "ResourceLedgerModel") ∈ lw_all := lw_g (lw_at lw_m1 31 rfl) rfl
theorem q2336 : (Jvm.Cond.instantiable "ResourceLedgerModel" (78 : Nat)) ∈ lw_all := lw_g (lw_at lw_m9 152 rfl) rfl
theorem q2338 : (Jvm.Cond.instanceMethod ({ cls := "ResourceLedgerModel", name := "<init>", desc := "(I)V" } : Jvm.MethodName)) ∈ lw_all := lw_g (lw_at lw_m9 154 rfl) rfl
theorem q2339 : (Jvm.Cond.code ({ cls := "ResourceLedgerModel", name := "<init>", desc := "(I)V" } : Jvm.MethodName) prog_27_method_59_code (3 : Nat) (Option.none : Option Jvm.ClassFile.FieldType)) ∈ lw_all := lw_g (lw_at lw_m9 155 rfl) rfl
theorem q2340 : (Jvm.Cond.methodLink "ResourceLedgerModel" (514 : Nat) ({ cls := "java/lang/Object", name := "<init>", desc := "()V" } : Jvm.MethodName)) ∈ lw_all := lw_g (lw_at lw_m9 156 rfl) rfl
theorem q2341 : (Jvm.Cond.classLink "ResourceLedgerModel" (22 : Nat) "ResourceLedgerModel$Unit") ∈ lw_all := lw_g (lw_at lw_m9 157 rfl) rfl
theorem q2343 : (Jvm.Cond.classLink "ResourceLedgerModel" (55 : Nat) "ResourceLedgerModel$Trees") ∈ lw_all := lw_g (lw_at lw_m9 159 rfl) rfl
theorem q2345 : (Jvm.Cond.methodLinkNest "ResourceLedgerModel" (522 : Nat) ({ cls := "ResourceLedgerModel$Trees", name := "<init>", desc := "()V" } : Jvm.MethodName) "ResourceLedgerModel") ∈ lw_tbl := lw_at lw_m9 161 rfl
theorem q2350 : (Jvm.Cond.fieldLinkNest "ResourceLedgerModel" (71 : Nat) "ResourceLedgerModel$Trees" "kinds" "[B" "ResourceLedgerModel") ∈ lw_tbl := lw_at lw_m9 166 rfl
theorem q2352 : (Jvm.Cond.fieldLinkNest "ResourceLedgerModel" (74 : Nat) "ResourceLedgerModel$Trees" "highs" "[J" "ResourceLedgerModel") ∈ lw_tbl := lw_at lw_m9 168 rfl
theorem q2354 : (Jvm.Cond.fieldLinkNest "ResourceLedgerModel" (77 : Nat) "ResourceLedgerModel$Trees" "lows" "[J" "ResourceLedgerModel") ∈ lw_tbl := lw_at lw_m9 170 rfl
theorem q2356 : (Jvm.Cond.fieldLinkNest "ResourceLedgerModel" (84 : Nat) "ResourceLedgerModel$Trees" "firsts" "[I" "ResourceLedgerModel") ∈ lw_tbl := lw_at lw_m9 172 rfl
theorem q2358 : (Jvm.Cond.fieldLinkNest "ResourceLedgerModel" (87 : Nat) "ResourceLedgerModel$Trees" "nexts" "[I" "ResourceLedgerModel") ∈ lw_tbl := lw_at lw_m9 174 rfl
theorem q2360 : (Jvm.Cond.fieldLinkNest "ResourceLedgerModel" (659 : Nat) "ResourceLedgerModel$Trees" "size" "I" "ResourceLedgerModel") ∈ lw_tbl := lw_at lw_m9 176 rfl
theorem q2374 : (Jvm.Cond.classLink "ResourceLedgerModel" (236 : Nat) "ResourceLedgerModel$Looker") ∈ lw_all := lw_g (lw_at lw_m9 190 rfl) rfl
theorem q2376 : (Jvm.Cond.methodLinkNest "ResourceLedgerModel" (523 : Nat) ({ cls := "ResourceLedgerModel$Looker", name := "<init>", desc := "()V" } : Jvm.MethodName) "ResourceLedgerModel") ∈ lw_tbl := lw_at lw_m9 192 rfl
theorem q2386 : (Jvm.Cond.fieldLinkNest "ResourceLedgerModel" (247 : Nat) "ResourceLedgerModel$Looker" "found" "I" "ResourceLedgerModel") ∈ lw_tbl := lw_at lw_m9 202 rfl
theorem q2449 : (Jvm.Cond.classLink "ResourceLedgerModel" (381 : Nat) "ResourceLedgerModel$Wide") ∈ lw_all := lw_g (lw_at lw_m10 25 rfl) rfl
theorem q2451 : (Jvm.Cond.methodLinkNest "ResourceLedgerModel" (524 : Nat) ({ cls := "ResourceLedgerModel$Wide", name := "<init>", desc := "()V" } : Jvm.MethodName) "ResourceLedgerModel") ∈ lw_tbl := lw_at lw_m10 27 rfl
theorem q2459 : (Jvm.Cond.fieldLinkNest "ResourceLedgerModel" (386 : Nat) "ResourceLedgerModel$Wide" "high" "J" "ResourceLedgerModel") ∈ lw_tbl := lw_at lw_m10 35 rfl
theorem q2461 : (Jvm.Cond.fieldLinkNest "ResourceLedgerModel" (389 : Nat) "ResourceLedgerModel$Wide" "low" "J" "ResourceLedgerModel") ∈ lw_tbl := lw_at lw_m10 37 rfl
theorem q2473 : (Jvm.Cond.classLink "ResourceLedgerModel" (99 : Nat) "ResourceLedgerModel$Digester") ∈ lw_all := lw_g (lw_at lw_m10 49 rfl) rfl
theorem q2475 : (Jvm.Cond.methodLinkNest "ResourceLedgerModel" (525 : Nat) ({ cls := "ResourceLedgerModel$Digester", name := "<init>", desc := "()V" } : Jvm.MethodName) "ResourceLedgerModel") ∈ lw_tbl := lw_at lw_m10 51 rfl
theorem q2480 : (Jvm.Cond.fieldLinkNest "ResourceLedgerModel" (691 : Nat) "ResourceLedgerModel$Digester" "message" "[B" "ResourceLedgerModel") ∈ lw_tbl := lw_at lw_m10 56 rfl
theorem q2482 : (Jvm.Cond.fieldLinkNest "ResourceLedgerModel" (690 : Nat) "ResourceLedgerModel$Digester" "size" "I" "ResourceLedgerModel") ∈ lw_tbl := lw_at lw_m10 58 rfl
theorem q2494 : (Jvm.Cond.classLink "ResourceLedgerModel" (526 : Nat) "ResourceLedgerModel$Roots") ∈ lw_all := lw_g (lw_at lw_m10 70 rfl) rfl
theorem q2496 : (Jvm.Cond.methodLink "ResourceLedgerModel" (528 : Nat) ({ cls := "ResourceLedgerModel$Roots", name := "<init>", desc := "(LResourceLedgerModel$Digester;)V" } : Jvm.MethodName)) ∈ lw_all := lw_g (lw_at lw_m10 72 rfl) rfl
theorem q2534 : (Jvm.Cond.constant "ResourceLedgerModel" (568 : Nat) (65536 : Int32)) ∈ lw_all := lw_g (lw_at lw_m10 110 rfl) rfl
theorem q2536 : (Jvm.Cond.methodLinkNest "ResourceLedgerModel" (608 : Nat) ({ cls := "ResourceLedgerModel$Unit", name := "<init>", desc := "()V" } : Jvm.MethodName) "ResourceLedgerModel") ∈ lw_tbl := lw_at lw_m10 112 rfl
theorem q2541 : (Jvm.Cond.fieldLinkNest "ResourceLedgerModel" (709 : Nat) "ResourceLedgerModel$Unit" "bytes" "[B" "ResourceLedgerModel") ∈ lw_tbl := lw_at lw_m10 117 rfl
theorem q2543 : (Jvm.Cond.fieldLinkNest "ResourceLedgerModel" (706 : Nat) "ResourceLedgerModel$Unit" "length" "I" "ResourceLedgerModel") ∈ lw_tbl := lw_at lw_m10 119 rfl
theorem q2547 : (Jvm.Cond.fieldLinkNest "ResourceLedgerModel" (212 : Nat) "ResourceLedgerModel$Unit" "where" "I" "ResourceLedgerModel") ∈ lw_tbl := lw_at lw_m10 123 rfl
theorem q2548 : (Jvm.Cond.fieldLinkNest "ResourceLedgerModel" (109 : Nat) "ResourceLedgerModel$Unit" "structures" "I" "ResourceLedgerModel") ∈ lw_tbl := lw_at lw_m10 124 rfl
theorem q2553 : (Jvm.Cond.fieldLinkNest "ResourceLedgerModel" (112 : Nat) "ResourceLedgerModel$Unit" "functions" "I" "ResourceLedgerModel") ∈ lw_tbl := lw_at lw_m10 129 rfl
theorem q2600 : (Jvm.Cond.fieldLink "ResourceLedgerModel" (13 : Nat) "ResourceLedgerModel" "addresses" "[J") ∈ lw_all := lw_g (lw_at lw_m10 176 rfl) rfl
theorem q2601 : (Jvm.Cond.fieldLink "ResourceLedgerModel" (303 : Nat) "ResourceLedgerModel" "balances" "[J") ∈ lw_all := lw_g (lw_at lw_m10 177 rfl) rfl
theorem q2602 : (Jvm.Cond.fieldLink "ResourceLedgerModel" (519 : Nat) "ResourceLedgerModel" "sequences" "[J") ∈ lw_all := lw_g (lw_at lw_m10 178 rfl) rfl
theorem q2603 : (Jvm.Cond.fieldLink "ResourceLedgerModel" (1 : Nat) "ResourceLedgerModel" "accounts" "I") ∈ lw_all := lw_g (lw_at lw_m10 179 rfl) rfl
theorem q2604 : (Jvm.Cond.fieldLink "ResourceLedgerModel" (17 : Nat) "ResourceLedgerModel" "units" "[LResourceLedgerModel$Unit;") ∈ lw_all := lw_g (lw_at lw_m10 180 rfl) rfl
theorem q2605 : (Jvm.Cond.fieldLink "ResourceLedgerModel" (7 : Nat) "ResourceLedgerModel" "modules" "I") ∈ lw_all := lw_g (lw_at lw_m10 181 rfl) rfl
theorem q2606 : (Jvm.Cond.fieldLink "ResourceLedgerModel" (189 : Nat) "ResourceLedgerModel" "depths" "[I") ∈ lw_all := lw_g (lw_at lw_m10 182 rfl) rfl
theorem q2607 : (Jvm.Cond.fieldLink "ResourceLedgerModel" (27 : Nat) "ResourceLedgerModel" "owners" "[J") ∈ lw_all := lw_g (lw_at lw_m10 183 rfl) rfl
theorem q2608 : (Jvm.Cond.fieldLink "ResourceLedgerModel" (30 : Nat) "ResourceLedgerModel" "kindsOf" "[I") ∈ lw_all := lw_g (lw_at lw_m10 184 rfl) rfl
theorem q2609 : (Jvm.Cond.fieldLink "ResourceLedgerModel" (10 : Nat) "ResourceLedgerModel" "resources" "I") ∈ lw_all := lw_g (lw_at lw_m10 185 rfl) rfl
theorem q2610 : (Jvm.Cond.fieldLink "ResourceLedgerModel" (44 : Nat) "ResourceLedgerModel" "rowKinds" "[B") ∈ lw_all := lw_g (lw_at lw_m10 186 rfl) rfl
theorem q2611 : (Jvm.Cond.fieldLink "ResourceLedgerModel" (48 : Nat) "ResourceLedgerModel" "rowHighs" "[J") ∈ lw_all := lw_g (lw_at lw_m10 187 rfl) rfl
theorem q2612 : (Jvm.Cond.fieldLink "ResourceLedgerModel" (51 : Nat) "ResourceLedgerModel" "rowLows" "[J") ∈ lw_all := lw_g (lw_at lw_m10 188 rfl) rfl
theorem q2613 : (Jvm.Cond.fieldLink "ResourceLedgerModel" (60 : Nat) "ResourceLedgerModel" "rowParts" "[I") ∈ lw_all := lw_g (lw_at lw_m10 189 rfl) rfl
theorem q2614 : (Jvm.Cond.fieldLink "ResourceLedgerModel" (34 : Nat) "ResourceLedgerModel" "rowAt" "I") ∈ lw_all := lw_g (lw_at lw_m10 190 rfl) rfl
theorem q2615 : (Jvm.Cond.fieldLink "ResourceLedgerModel" (40 : Nat) "ResourceLedgerModel" "trees" "LResourceLedgerModel$Trees;") ∈ lw_all := lw_g (lw_at lw_m10 191 rfl) rfl
theorem q2616 : (Jvm.Cond.fieldLink "ResourceLedgerModel" (231 : Nat) "ResourceLedgerModel" "looker" "LResourceLedgerModel$Looker;") ∈ lw_all := lw_g (lw_at lw_m10 192 rfl) rfl
theorem q2617 : (Jvm.Cond.fieldLink "ResourceLedgerModel" (373 : Nat) "ResourceLedgerModel" "wide" "LResourceLedgerModel$Wide;") ∈ lw_all := lw_g (lw_at lw_m10 193 rfl) rfl
theorem q2618 : (Jvm.Cond.fieldLink "ResourceLedgerModel" (94 : Nat) "ResourceLedgerModel" "digester" "LResourceLedgerModel$Digester;") ∈ lw_all := lw_g (lw_at lw_m10 194 rfl) rfl
theorem q2619 : (Jvm.Cond.fieldLink "ResourceLedgerModel" (531 : Nat) "ResourceLedgerModel" "roots" "LResourceLedgerModel$Roots;") ∈ lw_all := lw_g (lw_at lw_m10 195 rfl) rfl
theorem q2620 : (Jvm.Cond.fieldLink "ResourceLedgerModel" (612 : Nat) "ResourceLedgerModel" "minted" "J") ∈ lw_all := lw_g (lw_at lw_m10 196 rfl) rfl
theorem q2621 : (Jvm.Cond.fieldLink "ResourceLedgerModel" (615 : Nat) "ResourceLedgerModel" "burned" "J") ∈ lw_all := lw_g (lw_at lw_m10 197 rfl) rfl
theorem q2622 : (Jvm.Cond.fieldLink "ResourceLedgerModel" (322 : Nat) "ResourceLedgerModel" "slips" "I") ∈ lw_all := lw_g (lw_at lw_m10 198 rfl) rfl
theorem q2623 : (Jvm.Cond.fieldLink "ResourceLedgerModel" (215 : Nat) "ResourceLedgerModel" "faultPlace" "I") ∈ lw_all := lw_g (lw_at lw_m10 199 rfl) rfl
theorem q2624 : (Jvm.Cond.fieldLink "ResourceLedgerModel" (411 : Nat) "ResourceLedgerModel" "sender" "J") ∈ lw_all := lw_g (lw_at lw_m10 200 rfl) rfl
theorem q2625 : (Jvm.Cond.fieldLink "ResourceLedgerModel" (264 : Nat) "ResourceLedgerModel" "limit" "I") ∈ lw_all := lw_g (lw_at lw_m10 201 rfl) rfl
theorem q2626 : (Jvm.Cond.fieldLink "ResourceLedgerModel" (261 : Nat) "ResourceLedgerModel" "gas" "I") ∈ lw_all := lw_g (lw_at lw_m10 202 rfl) rfl
theorem q2627 : (Jvm.Cond.fieldLink "ResourceLedgerModel" (250 : Nat) "ResourceLedgerModel" "outcome" "I") ∈ lw_all := lw_g (lw_at lw_m10 203 rfl) rfl
theorem q2628 : (Jvm.Cond.fieldLink "ResourceLedgerModel" (253 : Nat) "ResourceLedgerModel" "code" "J") ∈ lw_all := lw_g (lw_at lw_m10 204 rfl) rfl
theorem q2629 : (Jvm.Cond.fieldLink "ResourceLedgerModel" (271 : Nat) "ResourceLedgerModel" "asked" "I") ∈ lw_all := lw_g (lw_at lw_m10 205 rfl) rfl
theorem q2630 : (Jvm.Cond.fieldLink "ResourceLedgerModel" (274 : Nat) "ResourceLedgerModel" "askedSorts" "[I") ∈ lw_all := lw_g (lw_at lw_m10 206 rfl) rfl
theorem q2631 : (Jvm.Cond.fieldLink "ResourceLedgerModel" (277 : Nat) "ResourceLedgerModel" "askedAddresses" "[J") ∈ lw_all := lw_g (lw_at lw_m10 207 rfl) rfl
theorem q2632 : (Jvm.Cond.fieldLink "ResourceLedgerModel" (280 : Nat) "ResourceLedgerModel" "askedKinds" "[I") ∈ lw_all := lw_g (lw_at lw_m10 208 rfl) rfl
theorem q2633 : (Jvm.Cond.fieldLink "ResourceLedgerModel" (300 : Nat) "ResourceLedgerModel" "askedBalances" "[J") ∈ lw_all := lw_g (lw_at lw_m10 209 rfl) rfl
theorem q2634 : (Jvm.Cond.fieldLink "ResourceLedgerModel" (285 : Nat) "ResourceLedgerModel" "askedTrees" "[I") ∈ lw_all := lw_g (lw_at lw_m10 210 rfl) rfl
theorem q2635 : (Jvm.Cond.fieldLink "ResourceLedgerModel" (296 : Nat) "ResourceLedgerModel" "askedThere" "[Z") ∈ lw_all := lw_g (lw_at lw_m10 211 rfl) rfl
theorem q2636 : (Jvm.Cond.fieldLink "ResourceLedgerModel" (328 : Nat) "ResourceLedgerModel" "frames" "I") ∈ lw_all := lw_g (lw_at lw_m10 212 rfl) rfl
theorem q2637 : (Jvm.Cond.fieldLink "ResourceLedgerModel" (441 : Nat) "ResourceLedgerModel" "frameUnits" "[I") ∈ lw_all := lw_g (lw_at lw_m10 213 rfl) rfl
theorem q2638 : (Jvm.Cond.fieldLink "ResourceLedgerModel" (444 : Nat) "ResourceLedgerModel" "frameFunctions" "[I") ∈ lw_all := lw_g (lw_at lw_m10 214 rfl) rfl
theorem q2639 : (Jvm.Cond.fieldLink "ResourceLedgerModel" (447 : Nat) "ResourceLedgerModel" "nexts" "[I") ∈ lw_all := lw_g (lw_at lw_m10 215 rfl) rfl
theorem q2640 : (Jvm.Cond.fieldLink "ResourceLedgerModel" (325 : Nat) "ResourceLedgerModel" "bases" "[I") ∈ lw_all := lw_g (lw_at lw_m10 216 rfl) rfl
theorem q2641 : (Jvm.Cond.fieldLink "ResourceLedgerModel" (347 : Nat) "ResourceLedgerModel" "locals" "[I") ∈ lw_all := lw_g (lw_at lw_m10 217 rfl) rfl
theorem q2642 : (Jvm.Cond.fieldLink "ResourceLedgerModel" (350 : Nat) "ResourceLedgerModel" "localRefers" "[Z") ∈ lw_all := lw_g (lw_at lw_m10 218 rfl) rfl
theorem q2643 : (Jvm.Cond.fieldLink "ResourceLedgerModel" (309 : Nat) "ResourceLedgerModel" "stack" "[I") ∈ lw_all := lw_g (lw_at lw_m10 219 rfl) rfl
theorem q2644 : (Jvm.Cond.fieldLink "ResourceLedgerModel" (315 : Nat) "ResourceLedgerModel" "refers" "[Z") ∈ lw_all := lw_g (lw_at lw_m10 220 rfl) rfl
theorem q2645 : (Jvm.Cond.fieldLink "ResourceLedgerModel" (312 : Nat) "ResourceLedgerModel" "height" "I") ∈ lw_all := lw_g (lw_at lw_m10 221 rfl) rfl
theorem q2646 : (Jvm.Cond.fieldLink "ResourceLedgerModel" (334 : Nat) "ResourceLedgerModel" "taken" "I") ∈ lw_all := lw_g (lw_at lw_m10 222 rfl) rfl
theorem q2647 : (Jvm.Cond.fieldLink "ResourceLedgerModel" (369 : Nat) "ResourceLedgerModel" "unit" "LResourceLedgerModel$Unit;") ∈ lw_all := lw_g (lw_at lw_m10 223 rfl) rfl
theorem q2648 : (Jvm.Cond.fieldLink "ResourceLedgerModel" (535 : Nat) "ResourceLedgerModel" "tape" "[B") ∈ lw_all := lw_g (lw_at lw_m10 224 rfl) rfl
theorem q2649 : (Jvm.Cond.fieldLink "ResourceLedgerModel" (609 : Nat) "ResourceLedgerModel" "tapeSize" "I") ∈ lw_all := lw_g (lw_at lw_m10 225 rfl) rfl
theorem q2650 : (Jvm.Cond.fieldLink "ResourceLedgerModel" (640 : Nat) "ResourceLedgerModel" "woven" "I") ∈ lw_all := lw_g (lw_at lw_m10 226 rfl) rfl
theorem q2651 : (Jvm.Cond.fieldLink "ResourceLedgerModel" (626 : Nat) "ResourceLedgerModel" "count" "I") ∈ lw_all := lw_g (lw_at lw_m10 227 rfl) rfl
theorem q2652 : (Jvm.Cond.fieldLink "ResourceLedgerModel" (628 : Nat) "ResourceLedgerModel" "done" "I") ∈ lw_all := lw_g (lw_at lw_m10 228 rfl) rfl
theorem q2653 : (Jvm.Cond.fieldLink "ResourceLedgerModel" (538 : Nat) "ResourceLedgerModel" "sorts" "[I") ∈ lw_all := lw_g (lw_at lw_m10 229 rfl) rfl
theorem q2654 : (Jvm.Cond.fieldLink "ResourceLedgerModel" (541 : Nat) "ResourceLedgerModel" "senders" "[J") ∈ lw_all := lw_g (lw_at lw_m10 230 rfl) rfl
theorem q2655 : (Jvm.Cond.fieldLink "ResourceLedgerModel" (544 : Nat) "ResourceLedgerModel" "turns" "[J") ∈ lw_all := lw_g (lw_at lw_m10 231 rfl) rfl
theorem q2656 : (Jvm.Cond.fieldLink "ResourceLedgerModel" (547 : Nat) "ResourceLedgerModel" "limits" "[I") ∈ lw_all := lw_g (lw_at lw_m10 232 rfl) rfl
theorem q2657 : (Jvm.Cond.fieldLink "ResourceLedgerModel" (550 : Nat) "ResourceLedgerModel" "modulesCalled" "[I") ∈ lw_all := lw_g (lw_at lw_m10 233 rfl) rfl
theorem q2658 : (Jvm.Cond.fieldLink "ResourceLedgerModel" (553 : Nat) "ResourceLedgerModel" "functionsCalled" "[I") ∈ lw_all := lw_g (lw_at lw_m10 234 rfl) rfl
theorem q2659 : (Jvm.Cond.fieldLink "ResourceLedgerModel" (556 : Nat) "ResourceLedgerModel" "argumentCounts" "[I") ∈ lw_all := lw_g (lw_at lw_m10 235 rfl) rfl
theorem q2660 : (Jvm.Cond.fieldLink "ResourceLedgerModel" (559 : Nat) "ResourceLedgerModel" "argumentTypes" "[B") ∈ lw_all := lw_g (lw_at lw_m10 236 rfl) rfl
theorem q2661 : (Jvm.Cond.fieldLink "ResourceLedgerModel" (562 : Nat) "ResourceLedgerModel" "argumentHighs" "[J") ∈ lw_all := lw_g (lw_at lw_m10 237 rfl) rfl
theorem q2662 : (Jvm.Cond.fieldLink "ResourceLedgerModel" (565 : Nat) "ResourceLedgerModel" "argumentLows" "[J") ∈ lw_all := lw_g (lw_at lw_m10 238 rfl) rfl
theorem q2663 : (Jvm.Cond.fieldLink "ResourceLedgerModel" (569 : Nat) "ResourceLedgerModel" "published" "[B") ∈ lw_all := lw_g (lw_at lw_m10 239 rfl) rfl
theorem q2664 : (Jvm.Cond.fieldLink "ResourceLedgerModel" (572 : Nat) "ResourceLedgerModel" "publishedSizes" "[I") ∈ lw_all := lw_g (lw_at lw_m11 0 rfl) rfl
theorem q2665 : (Jvm.Cond.fieldLink "ResourceLedgerModel" (575 : Nat) "ResourceLedgerModel" "outcomes" "[I") ∈ lw_all := lw_g (lw_at lw_m11 1 rfl) rfl
theorem q2666 : (Jvm.Cond.fieldLink "ResourceLedgerModel" (578 : Nat) "ResourceLedgerModel" "gases" "[I") ∈ lw_all := lw_g (lw_at lw_m11 2 rfl) rfl
theorem q2667 : (Jvm.Cond.fieldLink "ResourceLedgerModel" (581 : Nat) "ResourceLedgerModel" "faultPlaces" "[I") ∈ lw_all := lw_g (lw_at lw_m11 3 rfl) rfl
theorem q2668 : (Jvm.Cond.fieldLink "ResourceLedgerModel" (584 : Nat) "ResourceLedgerModel" "codes" "[J") ∈ lw_all := lw_g (lw_at lw_m11 4 rfl) rfl
theorem q2669 : (Jvm.Cond.fieldLink "ResourceLedgerModel" (587 : Nat) "ResourceLedgerModel" "resultCounts" "[I") ∈ lw_all := lw_g (lw_at lw_m11 5 rfl) rfl
theorem q2670 : (Jvm.Cond.fieldLink "ResourceLedgerModel" (590 : Nat) "ResourceLedgerModel" "resultTypes" "[B") ∈ lw_all := lw_g (lw_at lw_m11 6 rfl) rfl
theorem q2671 : (Jvm.Cond.fieldLink "ResourceLedgerModel" (593 : Nat) "ResourceLedgerModel" "resultHighs" "[J") ∈ lw_all := lw_g (lw_at lw_m11 7 rfl) rfl
theorem q2672 : (Jvm.Cond.fieldLink "ResourceLedgerModel" (596 : Nat) "ResourceLedgerModel" "resultLows" "[J") ∈ lw_all := lw_g (lw_at lw_m11 8 rfl) rfl
theorem q2673 : (Jvm.Cond.fieldLink "ResourceLedgerModel" (599 : Nat) "ResourceLedgerModel" "shown" "[B") ∈ lw_all := lw_g (lw_at lw_m11 9 rfl) rfl
theorem q2674 : (Jvm.Cond.fieldLink "ResourceLedgerModel" (684 : Nat) "ResourceLedgerModel" "shownSize" "I") ∈ lw_all := lw_g (lw_at lw_m11 10 rfl) rfl
theorem q2675 : (Jvm.Cond.fieldLink "ResourceLedgerModel" (602 : Nat) "ResourceLedgerModel" "key" "[J") ∈ lw_all := lw_g (lw_at lw_m11 11 rfl) rfl
theorem q2676 : (Jvm.Cond.fieldLink "ResourceLedgerModel" (605 : Nat) "ResourceLedgerModel" "value" "[J") ∈ lw_all := lw_g (lw_at lw_m11 12 rfl) rfl
theorem q2677 : (Jvm.Cond.laysFinal "ResourceLedgerModel" "ResourceLedgerModel" "addresses" "[J") ∈ lw_all := lw_g (lw_at lw_m11 13 rfl) rfl
theorem q2678 : (Jvm.Cond.soleField "ResourceLedgerModel" "addresses") ∈ lw_all := lw_g (lw_at lw_m11 14 rfl) rfl
theorem q2679 : (Jvm.Cond.laysFinal "ResourceLedgerModel" "ResourceLedgerModel" "balances" "[J") ∈ lw_all := lw_g (lw_at lw_m11 15 rfl) rfl
theorem q2680 : (Jvm.Cond.soleField "ResourceLedgerModel" "balances") ∈ lw_all := lw_g (lw_at lw_m11 16 rfl) rfl
theorem q2681 : (Jvm.Cond.laysFinal "ResourceLedgerModel" "ResourceLedgerModel" "sequences" "[J") ∈ lw_all := lw_g (lw_at lw_m11 17 rfl) rfl
theorem q2682 : (Jvm.Cond.soleField "ResourceLedgerModel" "sequences") ∈ lw_all := lw_g (lw_at lw_m11 18 rfl) rfl
theorem q2683 : (Jvm.Cond.lays "ResourceLedgerModel" "ResourceLedgerModel" "accounts" "I") ∈ lw_all := lw_g (lw_at lw_m11 19 rfl) rfl
theorem q2684 : (Jvm.Cond.soleField "ResourceLedgerModel" "accounts") ∈ lw_all := lw_g (lw_at lw_m11 20 rfl) rfl
theorem q2685 : (Jvm.Cond.laysFinal "ResourceLedgerModel" "ResourceLedgerModel" "units" "[LResourceLedgerModel$Unit;") ∈ lw_all := lw_g (lw_at lw_m11 21 rfl) rfl
theorem q2686 : (Jvm.Cond.soleField "ResourceLedgerModel" "units") ∈ lw_all := lw_g (lw_at lw_m11 22 rfl) rfl
theorem q2687 : (Jvm.Cond.lays "ResourceLedgerModel" "ResourceLedgerModel" "modules" "I") ∈ lw_all := lw_g (lw_at lw_m11 23 rfl) rfl
theorem q2688 : (Jvm.Cond.soleField "ResourceLedgerModel" "modules") ∈ lw_all := lw_g (lw_at lw_m11 24 rfl) rfl
theorem q2689 : (Jvm.Cond.laysFinal "ResourceLedgerModel" "ResourceLedgerModel" "depths" "[I") ∈ lw_all := lw_g (lw_at lw_m11 25 rfl) rfl
theorem q2690 : (Jvm.Cond.soleField "ResourceLedgerModel" "depths") ∈ lw_all := lw_g (lw_at lw_m11 26 rfl) rfl
theorem q2691 : (Jvm.Cond.laysFinal "ResourceLedgerModel" "ResourceLedgerModel" "owners" "[J") ∈ lw_all := lw_g (lw_at lw_m11 27 rfl) rfl
theorem q2692 : (Jvm.Cond.soleField "ResourceLedgerModel" "owners") ∈ lw_all := lw_g (lw_at lw_m11 28 rfl) rfl
theorem q2693 : (Jvm.Cond.laysFinal "ResourceLedgerModel" "ResourceLedgerModel" "kindsOf" "[I") ∈ lw_all := lw_g (lw_at lw_m11 29 rfl) rfl
theorem q2694 : (Jvm.Cond.soleField "ResourceLedgerModel" "kindsOf") ∈ lw_all := lw_g (lw_at lw_m11 30 rfl) rfl
theorem q2695 : (Jvm.Cond.lays "ResourceLedgerModel" "ResourceLedgerModel" "resources" "I") ∈ lw_all := lw_g (lw_at lw_m11 31 rfl) rfl
theorem q2696 : (Jvm.Cond.soleField "ResourceLedgerModel" "resources") ∈ lw_all := lw_g (lw_at lw_m11 32 rfl) rfl
theorem q2697 : (Jvm.Cond.laysFinal "ResourceLedgerModel" "ResourceLedgerModel" "rowKinds" "[B") ∈ lw_all := lw_g (lw_at lw_m11 33 rfl) rfl
theorem q2698 : (Jvm.Cond.soleField "ResourceLedgerModel" "rowKinds") ∈ lw_all := lw_g (lw_at lw_m11 34 rfl) rfl
theorem q2699 : (Jvm.Cond.laysFinal "ResourceLedgerModel" "ResourceLedgerModel" "rowHighs" "[J") ∈ lw_all := lw_g (lw_at lw_m11 35 rfl) rfl
theorem q2700 : (Jvm.Cond.soleField "ResourceLedgerModel" "rowHighs") ∈ lw_all := lw_g (lw_at lw_m11 36 rfl) rfl
theorem q2701 : (Jvm.Cond.laysFinal "ResourceLedgerModel" "ResourceLedgerModel" "rowLows" "[J") ∈ lw_all := lw_g (lw_at lw_m11 37 rfl) rfl
theorem q2702 : (Jvm.Cond.soleField "ResourceLedgerModel" "rowLows") ∈ lw_all := lw_g (lw_at lw_m11 38 rfl) rfl
theorem q2703 : (Jvm.Cond.laysFinal "ResourceLedgerModel" "ResourceLedgerModel" "rowParts" "[I") ∈ lw_all := lw_g (lw_at lw_m11 39 rfl) rfl
theorem q2704 : (Jvm.Cond.soleField "ResourceLedgerModel" "rowParts") ∈ lw_all := lw_g (lw_at lw_m11 40 rfl) rfl
theorem q2705 : (Jvm.Cond.lays "ResourceLedgerModel" "ResourceLedgerModel" "rowAt" "I") ∈ lw_all := lw_g (lw_at lw_m11 41 rfl) rfl
theorem q2706 : (Jvm.Cond.soleField "ResourceLedgerModel" "rowAt") ∈ lw_all := lw_g (lw_at lw_m11 42 rfl) rfl
theorem q2707 : (Jvm.Cond.laysFinal "ResourceLedgerModel" "ResourceLedgerModel" "trees" "LResourceLedgerModel$Trees;") ∈ lw_all := lw_g (lw_at lw_m11 43 rfl) rfl
theorem q2708 : (Jvm.Cond.soleField "ResourceLedgerModel" "trees") ∈ lw_all := lw_g (lw_at lw_m11 44 rfl) rfl
theorem q2709 : (Jvm.Cond.laysFinal "ResourceLedgerModel" "ResourceLedgerModel" "looker" "LResourceLedgerModel$Looker;") ∈ lw_all := lw_g (lw_at lw_m11 45 rfl) rfl
theorem q2710 : (Jvm.Cond.soleField "ResourceLedgerModel" "looker") ∈ lw_all := lw_g (lw_at lw_m11 46 rfl) rfl
theorem q2711 : (Jvm.Cond.laysFinal "ResourceLedgerModel" "ResourceLedgerModel" "wide" "LResourceLedgerModel$Wide;") ∈ lw_all := lw_g (lw_at lw_m11 47 rfl) rfl
theorem q2712 : (Jvm.Cond.soleField "ResourceLedgerModel" "wide") ∈ lw_all := lw_g (lw_at lw_m11 48 rfl) rfl
theorem q2713 : (Jvm.Cond.laysFinal "ResourceLedgerModel" "ResourceLedgerModel" "digester" "LResourceLedgerModel$Digester;") ∈ lw_all := lw_g (lw_at lw_m11 49 rfl) rfl
theorem q2714 : (Jvm.Cond.soleField "ResourceLedgerModel" "digester") ∈ lw_all := lw_g (lw_at lw_m11 50 rfl) rfl
theorem q2715 : (Jvm.Cond.laysFinal "ResourceLedgerModel" "ResourceLedgerModel" "roots" "LResourceLedgerModel$Roots;") ∈ lw_all := lw_g (lw_at lw_m11 51 rfl) rfl
theorem q2716 : (Jvm.Cond.soleField "ResourceLedgerModel" "roots") ∈ lw_all := lw_g (lw_at lw_m11 52 rfl) rfl
theorem q2717 : (Jvm.Cond.lays "ResourceLedgerModel" "ResourceLedgerModel" "minted" "J") ∈ lw_all := lw_g (lw_at lw_m11 53 rfl) rfl
theorem q2718 : (Jvm.Cond.soleField "ResourceLedgerModel" "minted") ∈ lw_all := lw_g (lw_at lw_m11 54 rfl) rfl
theorem q2719 : (Jvm.Cond.lays "ResourceLedgerModel" "ResourceLedgerModel" "burned" "J") ∈ lw_all := lw_g (lw_at lw_m11 55 rfl) rfl
theorem q2720 : (Jvm.Cond.soleField "ResourceLedgerModel" "burned") ∈ lw_all := lw_g (lw_at lw_m11 56 rfl) rfl
theorem q2721 : (Jvm.Cond.lays "ResourceLedgerModel" "ResourceLedgerModel" "slips" "I") ∈ lw_all := lw_g (lw_at lw_m11 57 rfl) rfl
theorem q2722 : (Jvm.Cond.soleField "ResourceLedgerModel" "slips") ∈ lw_all := lw_g (lw_at lw_m11 58 rfl) rfl
theorem q2723 : (Jvm.Cond.lays "ResourceLedgerModel" "ResourceLedgerModel" "faultPlace" "I") ∈ lw_all := lw_g (lw_at lw_m11 59 rfl) rfl
theorem q2724 : (Jvm.Cond.soleField "ResourceLedgerModel" "faultPlace") ∈ lw_all := lw_g (lw_at lw_m11 60 rfl) rfl
theorem q2725 : (Jvm.Cond.lays "ResourceLedgerModel" "ResourceLedgerModel" "sender" "J") ∈ lw_all := lw_g (lw_at lw_m11 61 rfl) rfl
theorem q2726 : (Jvm.Cond.soleField "ResourceLedgerModel" "sender") ∈ lw_all := lw_g (lw_at lw_m11 62 rfl) rfl
theorem q2727 : (Jvm.Cond.lays "ResourceLedgerModel" "ResourceLedgerModel" "limit" "I") ∈ lw_all := lw_g (lw_at lw_m11 63 rfl) rfl
theorem q2728 : (Jvm.Cond.soleField "ResourceLedgerModel" "limit") ∈ lw_all := lw_g (lw_at lw_m11 64 rfl) rfl
theorem q2729 : (Jvm.Cond.lays "ResourceLedgerModel" "ResourceLedgerModel" "gas" "I") ∈ lw_all := lw_g (lw_at lw_m11 65 rfl) rfl
theorem q2730 : (Jvm.Cond.soleField "ResourceLedgerModel" "gas") ∈ lw_all := lw_g (lw_at lw_m11 66 rfl) rfl
theorem q2731 : (Jvm.Cond.lays "ResourceLedgerModel" "ResourceLedgerModel" "outcome" "I") ∈ lw_all := lw_g (lw_at lw_m11 67 rfl) rfl
theorem q2732 : (Jvm.Cond.soleField "ResourceLedgerModel" "outcome") ∈ lw_all := lw_g (lw_at lw_m11 68 rfl) rfl
theorem q2733 : (Jvm.Cond.lays "ResourceLedgerModel" "ResourceLedgerModel" "code" "J") ∈ lw_all := lw_g (lw_at lw_m11 69 rfl) rfl
theorem q2734 : (Jvm.Cond.soleField "ResourceLedgerModel" "code") ∈ lw_all := lw_g (lw_at lw_m11 70 rfl) rfl
theorem q2735 : (Jvm.Cond.lays "ResourceLedgerModel" "ResourceLedgerModel" "asked" "I") ∈ lw_all := lw_g (lw_at lw_m11 71 rfl) rfl
theorem q2736 : (Jvm.Cond.soleField "ResourceLedgerModel" "asked") ∈ lw_all := lw_g (lw_at lw_m11 72 rfl) rfl
theorem q2737 : (Jvm.Cond.laysFinal "ResourceLedgerModel" "ResourceLedgerModel" "askedSorts" "[I") ∈ lw_all := lw_g (lw_at lw_m11 73 rfl) rfl
theorem q2738 : (Jvm.Cond.soleField "ResourceLedgerModel" "askedSorts") ∈ lw_all := lw_g (lw_at lw_m11 74 rfl) rfl
theorem q2739 : (Jvm.Cond.laysFinal "ResourceLedgerModel" "ResourceLedgerModel" "askedAddresses" "[J") ∈ lw_all := lw_g (lw_at lw_m11 75 rfl) rfl
theorem q2740 : (Jvm.Cond.soleField "ResourceLedgerModel" "askedAddresses") ∈ lw_all := lw_g (lw_at lw_m11 76 rfl) rfl
theorem q2741 : (Jvm.Cond.laysFinal "ResourceLedgerModel" "ResourceLedgerModel" "askedKinds" "[I") ∈ lw_all := lw_g (lw_at lw_m11 77 rfl) rfl
theorem q2742 : (Jvm.Cond.soleField "ResourceLedgerModel" "askedKinds") ∈ lw_all := lw_g (lw_at lw_m11 78 rfl) rfl
theorem q2743 : (Jvm.Cond.laysFinal "ResourceLedgerModel" "ResourceLedgerModel" "askedBalances" "[J") ∈ lw_all := lw_g (lw_at lw_m11 79 rfl) rfl
theorem q2744 : (Jvm.Cond.soleField "ResourceLedgerModel" "askedBalances") ∈ lw_all := lw_g (lw_at lw_m11 80 rfl) rfl
theorem q2745 : (Jvm.Cond.laysFinal "ResourceLedgerModel" "ResourceLedgerModel" "askedTrees" "[I") ∈ lw_all := lw_g (lw_at lw_m11 81 rfl) rfl
theorem q2746 : (Jvm.Cond.soleField "ResourceLedgerModel" "askedTrees") ∈ lw_all := lw_g (lw_at lw_m11 82 rfl) rfl
theorem q2747 : (Jvm.Cond.laysFinal "ResourceLedgerModel" "ResourceLedgerModel" "askedThere" "[Z") ∈ lw_all := lw_g (lw_at lw_m11 83 rfl) rfl
theorem q2748 : (Jvm.Cond.soleField "ResourceLedgerModel" "askedThere") ∈ lw_all := lw_g (lw_at lw_m11 84 rfl) rfl
theorem q2749 : (Jvm.Cond.lays "ResourceLedgerModel" "ResourceLedgerModel" "frames" "I") ∈ lw_all := lw_g (lw_at lw_m11 85 rfl) rfl
theorem q2750 : (Jvm.Cond.soleField "ResourceLedgerModel" "frames") ∈ lw_all := lw_g (lw_at lw_m11 86 rfl) rfl
theorem q2751 : (Jvm.Cond.laysFinal "ResourceLedgerModel" "ResourceLedgerModel" "frameUnits" "[I") ∈ lw_all := lw_g (lw_at lw_m11 87 rfl) rfl
theorem q2752 : (Jvm.Cond.soleField "ResourceLedgerModel" "frameUnits") ∈ lw_all := lw_g (lw_at lw_m11 88 rfl) rfl
theorem q2753 : (Jvm.Cond.laysFinal "ResourceLedgerModel" "ResourceLedgerModel" "frameFunctions" "[I") ∈ lw_all := lw_g (lw_at lw_m11 89 rfl) rfl
theorem q2754 : (Jvm.Cond.soleField "ResourceLedgerModel" "frameFunctions") ∈ lw_all := lw_g (lw_at lw_m11 90 rfl) rfl
theorem q2755 : (Jvm.Cond.laysFinal "ResourceLedgerModel" "ResourceLedgerModel" "nexts" "[I") ∈ lw_all := lw_g (lw_at lw_m11 91 rfl) rfl
theorem q2756 : (Jvm.Cond.soleField "ResourceLedgerModel" "nexts") ∈ lw_all := lw_g (lw_at lw_m11 92 rfl) rfl
theorem q2757 : (Jvm.Cond.laysFinal "ResourceLedgerModel" "ResourceLedgerModel" "bases" "[I") ∈ lw_all := lw_g (lw_at lw_m11 93 rfl) rfl
theorem q2758 : (Jvm.Cond.soleField "ResourceLedgerModel" "bases") ∈ lw_all := lw_g (lw_at lw_m11 94 rfl) rfl
theorem q2759 : (Jvm.Cond.laysFinal "ResourceLedgerModel" "ResourceLedgerModel" "locals" "[I") ∈ lw_all := lw_g (lw_at lw_m11 95 rfl) rfl
theorem q2760 : (Jvm.Cond.soleField "ResourceLedgerModel" "locals") ∈ lw_all := lw_g (lw_at lw_m11 96 rfl) rfl
theorem q2761 : (Jvm.Cond.laysFinal "ResourceLedgerModel" "ResourceLedgerModel" "localRefers" "[Z") ∈ lw_all := lw_g (lw_at lw_m11 97 rfl) rfl
theorem q2762 : (Jvm.Cond.soleField "ResourceLedgerModel" "localRefers") ∈ lw_all := lw_g (lw_at lw_m11 98 rfl) rfl
theorem q2763 : (Jvm.Cond.laysFinal "ResourceLedgerModel" "ResourceLedgerModel" "stack" "[I") ∈ lw_all := lw_g (lw_at lw_m11 99 rfl) rfl
theorem q2764 : (Jvm.Cond.soleField "ResourceLedgerModel" "stack") ∈ lw_all := lw_g (lw_at lw_m11 100 rfl) rfl
theorem q2765 : (Jvm.Cond.laysFinal "ResourceLedgerModel" "ResourceLedgerModel" "refers" "[Z") ∈ lw_all := lw_g (lw_at lw_m11 101 rfl) rfl
theorem q2766 : (Jvm.Cond.soleField "ResourceLedgerModel" "refers") ∈ lw_all := lw_g (lw_at lw_m11 102 rfl) rfl
theorem q2767 : (Jvm.Cond.lays "ResourceLedgerModel" "ResourceLedgerModel" "height" "I") ∈ lw_all := lw_g (lw_at lw_m11 103 rfl) rfl
theorem q2768 : (Jvm.Cond.soleField "ResourceLedgerModel" "height") ∈ lw_all := lw_g (lw_at lw_m11 104 rfl) rfl
theorem q2769 : (Jvm.Cond.lays "ResourceLedgerModel" "ResourceLedgerModel" "taken" "I") ∈ lw_all := lw_g (lw_at lw_m11 105 rfl) rfl
theorem q2770 : (Jvm.Cond.soleField "ResourceLedgerModel" "taken") ∈ lw_all := lw_g (lw_at lw_m11 106 rfl) rfl
theorem q2771 : (Jvm.Cond.lays "ResourceLedgerModel" "ResourceLedgerModel" "takenRefers" "Z") ∈ lw_all := lw_g (lw_at lw_m11 107 rfl) rfl
theorem q2772 : (Jvm.Cond.soleField "ResourceLedgerModel" "takenRefers") ∈ lw_all := lw_g (lw_at lw_m11 108 rfl) rfl
theorem q2773 : (Jvm.Cond.lays "ResourceLedgerModel" "ResourceLedgerModel" "unit" "LResourceLedgerModel$Unit;") ∈ lw_all := lw_g (lw_at lw_m11 109 rfl) rfl
theorem q2774 : (Jvm.Cond.soleField "ResourceLedgerModel" "unit") ∈ lw_all := lw_g (lw_at lw_m11 110 rfl) rfl
theorem q2775 : (Jvm.Cond.laysFinal "ResourceLedgerModel" "ResourceLedgerModel" "tape" "[B") ∈ lw_all := lw_g (lw_at lw_m11 111 rfl) rfl
theorem q2776 : (Jvm.Cond.soleField "ResourceLedgerModel" "tape") ∈ lw_all := lw_g (lw_at lw_m11 112 rfl) rfl
theorem q2777 : (Jvm.Cond.lays "ResourceLedgerModel" "ResourceLedgerModel" "tapeSize" "I") ∈ lw_all := lw_g (lw_at lw_m11 113 rfl) rfl
theorem q2778 : (Jvm.Cond.soleField "ResourceLedgerModel" "tapeSize") ∈ lw_all := lw_g (lw_at lw_m11 114 rfl) rfl
theorem q2779 : (Jvm.Cond.lays "ResourceLedgerModel" "ResourceLedgerModel" "woven" "I") ∈ lw_all := lw_g (lw_at lw_m11 115 rfl) rfl
theorem q2780 : (Jvm.Cond.soleField "ResourceLedgerModel" "woven") ∈ lw_all := lw_g (lw_at lw_m11 116 rfl) rfl
theorem q2781 : (Jvm.Cond.lays "ResourceLedgerModel" "ResourceLedgerModel" "count" "I") ∈ lw_all := lw_g (lw_at lw_m11 117 rfl) rfl
theorem q2782 : (Jvm.Cond.soleField "ResourceLedgerModel" "count") ∈ lw_all := lw_g (lw_at lw_m11 118 rfl) rfl
theorem q2783 : (Jvm.Cond.lays "ResourceLedgerModel" "ResourceLedgerModel" "done" "I") ∈ lw_all := lw_g (lw_at lw_m11 119 rfl) rfl
theorem q2784 : (Jvm.Cond.soleField "ResourceLedgerModel" "done") ∈ lw_all := lw_g (lw_at lw_m11 120 rfl) rfl
theorem q2785 : (Jvm.Cond.laysFinal "ResourceLedgerModel" "ResourceLedgerModel" "sorts" "[I") ∈ lw_all := lw_g (lw_at lw_m11 121 rfl) rfl
theorem q2786 : (Jvm.Cond.soleField "ResourceLedgerModel" "sorts") ∈ lw_all := lw_g (lw_at lw_m11 122 rfl) rfl
theorem q2787 : (Jvm.Cond.laysFinal "ResourceLedgerModel" "ResourceLedgerModel" "senders" "[J") ∈ lw_all := lw_g (lw_at lw_m11 123 rfl) rfl
theorem q2788 : (Jvm.Cond.soleField "ResourceLedgerModel" "senders") ∈ lw_all := lw_g (lw_at lw_m11 124 rfl) rfl
theorem q2789 : (Jvm.Cond.laysFinal "ResourceLedgerModel" "ResourceLedgerModel" "turns" "[J") ∈ lw_all := lw_g (lw_at lw_m11 125 rfl) rfl
theorem q2790 : (Jvm.Cond.soleField "ResourceLedgerModel" "turns") ∈ lw_all := lw_g (lw_at lw_m11 126 rfl) rfl
theorem q2791 : (Jvm.Cond.laysFinal "ResourceLedgerModel" "ResourceLedgerModel" "limits" "[I") ∈ lw_all := lw_g (lw_at lw_m11 127 rfl) rfl
theorem q2792 : (Jvm.Cond.soleField "ResourceLedgerModel" "limits") ∈ lw_all := lw_g (lw_at lw_m11 128 rfl) rfl
theorem q2793 : (Jvm.Cond.laysFinal "ResourceLedgerModel" "ResourceLedgerModel" "modulesCalled" "[I") ∈ lw_all := lw_g (lw_at lw_m11 129 rfl) rfl
theorem q2794 : (Jvm.Cond.soleField "ResourceLedgerModel" "modulesCalled") ∈ lw_all := lw_g (lw_at lw_m11 130 rfl) rfl
theorem q2795 : (Jvm.Cond.laysFinal "ResourceLedgerModel" "ResourceLedgerModel" "functionsCalled" "[I") ∈ lw_all := lw_g (lw_at lw_m11 131 rfl) rfl
theorem q2796 : (Jvm.Cond.soleField "ResourceLedgerModel" "functionsCalled") ∈ lw_all := lw_g (lw_at lw_m11 132 rfl) rfl
theorem q2797 : (Jvm.Cond.laysFinal "ResourceLedgerModel" "ResourceLedgerModel" "argumentCounts" "[I") ∈ lw_all := lw_g (lw_at lw_m11 133 rfl) rfl
theorem q2798 : (Jvm.Cond.soleField "ResourceLedgerModel" "argumentCounts") ∈ lw_all := lw_g (lw_at lw_m11 134 rfl) rfl
theorem q2799 : (Jvm.Cond.laysFinal "ResourceLedgerModel" "ResourceLedgerModel" "argumentTypes" "[B") ∈ lw_all := lw_g (lw_at lw_m11 135 rfl) rfl
theorem q2800 : (Jvm.Cond.soleField "ResourceLedgerModel" "argumentTypes") ∈ lw_all := lw_g (lw_at lw_m11 136 rfl) rfl
theorem q2801 : (Jvm.Cond.laysFinal "ResourceLedgerModel" "ResourceLedgerModel" "argumentHighs" "[J") ∈ lw_all := lw_g (lw_at lw_m11 137 rfl) rfl
theorem q2802 : (Jvm.Cond.soleField "ResourceLedgerModel" "argumentHighs") ∈ lw_all := lw_g (lw_at lw_m11 138 rfl) rfl
theorem q2803 : (Jvm.Cond.laysFinal "ResourceLedgerModel" "ResourceLedgerModel" "argumentLows" "[J") ∈ lw_all := lw_g (lw_at lw_m11 139 rfl) rfl
theorem q2804 : (Jvm.Cond.soleField "ResourceLedgerModel" "argumentLows") ∈ lw_all := lw_g (lw_at lw_m11 140 rfl) rfl
theorem q2805 : (Jvm.Cond.laysFinal "ResourceLedgerModel" "ResourceLedgerModel" "published" "[B") ∈ lw_all := lw_g (lw_at lw_m11 141 rfl) rfl
theorem q2806 : (Jvm.Cond.soleField "ResourceLedgerModel" "published") ∈ lw_all := lw_g (lw_at lw_m11 142 rfl) rfl
theorem q2807 : (Jvm.Cond.laysFinal "ResourceLedgerModel" "ResourceLedgerModel" "publishedSizes" "[I") ∈ lw_all := lw_g (lw_at lw_m11 143 rfl) rfl
theorem q2808 : (Jvm.Cond.soleField "ResourceLedgerModel" "publishedSizes") ∈ lw_all := lw_g (lw_at lw_m11 144 rfl) rfl
theorem q2809 : (Jvm.Cond.laysFinal "ResourceLedgerModel" "ResourceLedgerModel" "outcomes" "[I") ∈ lw_all := lw_g (lw_at lw_m11 145 rfl) rfl
theorem q2810 : (Jvm.Cond.soleField "ResourceLedgerModel" "outcomes") ∈ lw_all := lw_g (lw_at lw_m11 146 rfl) rfl
theorem q2811 : (Jvm.Cond.laysFinal "ResourceLedgerModel" "ResourceLedgerModel" "gases" "[I") ∈ lw_all := lw_g (lw_at lw_m11 147 rfl) rfl
theorem q2812 : (Jvm.Cond.soleField "ResourceLedgerModel" "gases") ∈ lw_all := lw_g (lw_at lw_m11 148 rfl) rfl
theorem q2813 : (Jvm.Cond.laysFinal "ResourceLedgerModel" "ResourceLedgerModel" "faultPlaces" "[I") ∈ lw_all := lw_g (lw_at lw_m11 149 rfl) rfl
theorem q2814 : (Jvm.Cond.soleField "ResourceLedgerModel" "faultPlaces") ∈ lw_all := lw_g (lw_at lw_m11 150 rfl) rfl
theorem q2815 : (Jvm.Cond.laysFinal "ResourceLedgerModel" "ResourceLedgerModel" "codes" "[J") ∈ lw_all := lw_g (lw_at lw_m11 151 rfl) rfl
theorem q2816 : (Jvm.Cond.soleField "ResourceLedgerModel" "codes") ∈ lw_all := lw_g (lw_at lw_m11 152 rfl) rfl
theorem q2817 : (Jvm.Cond.laysFinal "ResourceLedgerModel" "ResourceLedgerModel" "resultCounts" "[I") ∈ lw_all := lw_g (lw_at lw_m11 153 rfl) rfl
theorem q2818 : (Jvm.Cond.soleField "ResourceLedgerModel" "resultCounts") ∈ lw_all := lw_g (lw_at lw_m11 154 rfl) rfl
theorem q2819 : (Jvm.Cond.laysFinal "ResourceLedgerModel" "ResourceLedgerModel" "resultTypes" "[B") ∈ lw_all := lw_g (lw_at lw_m11 155 rfl) rfl
theorem q2820 : (Jvm.Cond.soleField "ResourceLedgerModel" "resultTypes") ∈ lw_all := lw_g (lw_at lw_m11 156 rfl) rfl
theorem q2821 : (Jvm.Cond.laysFinal "ResourceLedgerModel" "ResourceLedgerModel" "resultHighs" "[J") ∈ lw_all := lw_g (lw_at lw_m11 157 rfl) rfl
theorem q2822 : (Jvm.Cond.soleField "ResourceLedgerModel" "resultHighs") ∈ lw_all := lw_g (lw_at lw_m11 158 rfl) rfl
theorem q2823 : (Jvm.Cond.laysFinal "ResourceLedgerModel" "ResourceLedgerModel" "resultLows" "[J") ∈ lw_all := lw_g (lw_at lw_m11 159 rfl) rfl
theorem q2824 : (Jvm.Cond.soleField "ResourceLedgerModel" "resultLows") ∈ lw_all := lw_g (lw_at lw_m11 160 rfl) rfl
theorem q2825 : (Jvm.Cond.laysFinal "ResourceLedgerModel" "ResourceLedgerModel" "shown" "[B") ∈ lw_all := lw_g (lw_at lw_m11 161 rfl) rfl
theorem q2826 : (Jvm.Cond.soleField "ResourceLedgerModel" "shown") ∈ lw_all := lw_g (lw_at lw_m11 162 rfl) rfl
theorem q2827 : (Jvm.Cond.lays "ResourceLedgerModel" "ResourceLedgerModel" "shownSize" "I") ∈ lw_all := lw_g (lw_at lw_m11 163 rfl) rfl
theorem q2828 : (Jvm.Cond.soleField "ResourceLedgerModel" "shownSize") ∈ lw_all := lw_g (lw_at lw_m11 164 rfl) rfl
theorem q2829 : (Jvm.Cond.laysFinal "ResourceLedgerModel" "ResourceLedgerModel" "key" "[J") ∈ lw_all := lw_g (lw_at lw_m11 165 rfl) rfl
theorem q2830 : (Jvm.Cond.soleField "ResourceLedgerModel" "key") ∈ lw_all := lw_g (lw_at lw_m11 166 rfl) rfl
theorem q2831 : (Jvm.Cond.laysFinal "ResourceLedgerModel" "ResourceLedgerModel" "value" "[J") ∈ lw_all := lw_g (lw_at lw_m11 167 rfl) rfl
theorem q2832 : (Jvm.Cond.soleField "ResourceLedgerModel" "value") ∈ lw_all := lw_g (lw_at lw_m11 168 rfl) rfl
theorem q2833 : (Jvm.Cond.superclass "ResourceLedgerModel" "java/lang/Object") ∈ lw_all := lw_g (lw_at lw_m11 169 rfl) rfl
theorem q2835 : (Jvm.Cond.instanceMethod ({ cls := "ResourceLedgerModel", name := "type", desc := "(JI)I" } : Jvm.MethodName)) ∈ lw_all := lw_g (lw_at lw_m11 171 rfl) rfl
theorem q2836 : (Jvm.Cond.selects "ResourceLedgerModel" ({ cls := "ResourceLedgerModel", name := "type", desc := "(JI)I" } : Jvm.MethodName) ({ cls := "ResourceLedgerModel", name := "type", desc := "(JI)I" } : Jvm.MethodName)) ∈ lw_all := lw_g (lw_at lw_m11 172 rfl) rfl
theorem q2837 : (Jvm.Cond.code ({ cls := "ResourceLedgerModel", name := "type", desc := "(JI)I" } : Jvm.MethodName) prog_27_method_60_code (5 : Nat) (Option.some Jvm.ClassFile.FieldType.int)) ∈ lw_all := lw_g (lw_at lw_m11 173 rfl) rfl
theorem q2839 : (Jvm.Cond.instanceMethod ({ cls := "ResourceLedgerModel", name := "mint", desc := "(JJ)Z" } : Jvm.MethodName)) ∈ lw_all := lw_g (lw_at lw_m11 175 rfl) rfl
theorem q2840 : (Jvm.Cond.selects "ResourceLedgerModel" ({ cls := "ResourceLedgerModel", name := "mint", desc := "(JJ)Z" } : Jvm.MethodName) ({ cls := "ResourceLedgerModel", name := "mint", desc := "(JJ)Z" } : Jvm.MethodName)) ∈ lw_all := lw_g (lw_at lw_m11 176 rfl) rfl
theorem q2841 : (Jvm.Cond.code ({ cls := "ResourceLedgerModel", name := "mint", desc := "(JJ)Z" } : Jvm.MethodName) prog_27_method_61_code (6 : Nat) (Option.some Jvm.ClassFile.FieldType.boolean)) ∈ lw_all := lw_g (lw_at lw_m11 177 rfl) rfl
theorem q2842 : (Jvm.Cond.constantLong "ResourceLedgerModel" (618 : Nat) (4611686018427387904 : Int64)) ∈ lw_all := lw_g (lw_at lw_m11 178 rfl) rfl
theorem q2843 : (Jvm.Cond.methodLink "ResourceLedgerModel" (288 : Nat) ({ cls := "ResourceLedgerModel", name := "findAccount", desc := "(J)I" } : Jvm.MethodName)) ∈ lw_all := lw_g (lw_at lw_m11 179 rfl) rfl
theorem q2844 : (Jvm.Cond.privateMethod ({ cls := "ResourceLedgerModel", name := "findAccount", desc := "(J)I" } : Jvm.MethodName)) ∈ lw_tbl := lw_at lw_m11 180 rfl
theorem q2845 : (Jvm.Cond.instanceMethod ({ cls := "ResourceLedgerModel", name := "findAccount", desc := "(J)I" } : Jvm.MethodName)) ∈ lw_all := lw_g (lw_at lw_m11 181 rfl) rfl
theorem q2846 : (Jvm.Cond.code ({ cls := "ResourceLedgerModel", name := "findAccount", desc := "(J)I" } : Jvm.MethodName) prog_27_method_2_code (4 : Nat) (Option.some Jvm.ClassFile.FieldType.int)) ∈ lw_all := lw_g (lw_at lw_m11 182 rfl) rfl
theorem q2847 : (Jvm.Cond.methodLink "ResourceLedgerModel" (620 : Nat) ({ cls := "ResourceLedgerModel", name := "placeCount", desc := "()I" } : Jvm.MethodName)) ∈ lw_all := lw_g (lw_at lw_m11 183 rfl) rfl
theorem q2848 : (Jvm.Cond.privateMethod ({ cls := "ResourceLedgerModel", name := "placeCount", desc := "()I" } : Jvm.MethodName)) ∈ lw_tbl := lw_at lw_m11 184 rfl
theorem q2849 : (Jvm.Cond.instanceMethod ({ cls := "ResourceLedgerModel", name := "placeCount", desc := "()I" } : Jvm.MethodName)) ∈ lw_all := lw_g (lw_at lw_m11 185 rfl) rfl
theorem q2850 : (Jvm.Cond.code ({ cls := "ResourceLedgerModel", name := "placeCount", desc := "()I" } : Jvm.MethodName) prog_27_method_1_code (1 : Nat) (Option.some Jvm.ClassFile.FieldType.int)) ∈ lw_all := lw_g (lw_at lw_m11 186 rfl) rfl
theorem q2851 : (Jvm.Cond.methodLink "ResourceLedgerModel" (623 : Nat) ({ cls := "ResourceLedgerModel", name := "newAccount", desc := "(J)I" } : Jvm.MethodName)) ∈ lw_all := lw_g (lw_at lw_m11 187 rfl) rfl
theorem q2852 : (Jvm.Cond.privateMethod ({ cls := "ResourceLedgerModel", name := "newAccount", desc := "(J)I" } : Jvm.MethodName)) ∈ lw_tbl := lw_at lw_m11 188 rfl
theorem q2853 : (Jvm.Cond.instanceMethod ({ cls := "ResourceLedgerModel", name := "newAccount", desc := "(J)I" } : Jvm.MethodName)) ∈ lw_all := lw_g (lw_at lw_m11 189 rfl) rfl
theorem q2854 : (Jvm.Cond.code ({ cls := "ResourceLedgerModel", name := "newAccount", desc := "(J)I" } : Jvm.MethodName) prog_27_method_62_code (3 : Nat) (Option.some Jvm.ClassFile.FieldType.int)) ∈ lw_all := lw_g (lw_at lw_m11 190 rfl) rfl
theorem q2856 : (Jvm.Cond.instanceMethod ({ cls := "ResourceLedgerModel", name := "begin", desc := "()I" } : Jvm.MethodName)) ∈ lw_all := lw_g (lw_at lw_m11 192 rfl) rfl
theorem q2857 : (Jvm.Cond.selects "ResourceLedgerModel" ({ cls := "ResourceLedgerModel", name := "begin", desc := "()I" } : Jvm.MethodName) ({ cls := "ResourceLedgerModel", name := "begin", desc := "()I" } : Jvm.MethodName)) ∈ lw_all := lw_g (lw_at lw_m11 193 rfl) rfl
theorem q2858 : (Jvm.Cond.code ({ cls := "ResourceLedgerModel", name := "begin", desc := "()I" } : Jvm.MethodName) prog_27_method_63_code (2 : Nat) (Option.some Jvm.ClassFile.FieldType.int)) ∈ lw_all := lw_g (lw_at lw_m11 194 rfl) rfl
theorem q2860 : (Jvm.Cond.instanceMethod ({ cls := "ResourceLedgerModel", name := "publish", desc := "(JJI)I" } : Jvm.MethodName)) ∈ lw_all := lw_g (lw_at lw_m11 196 rfl) rfl
theorem q2861 : (Jvm.Cond.selects "ResourceLedgerModel" ({ cls := "ResourceLedgerModel", name := "publish", desc := "(JJI)I" } : Jvm.MethodName) ({ cls := "ResourceLedgerModel", name := "publish", desc := "(JJI)I" } : Jvm.MethodName)) ∈ lw_all := lw_g (lw_at lw_m11 197 rfl) rfl
theorem q2862 : (Jvm.Cond.code ({ cls := "ResourceLedgerModel", name := "publish", desc := "(JJI)I" } : Jvm.MethodName) prog_27_method_66_code (8 : Nat) (Option.some Jvm.ClassFile.FieldType.int)) ∈ lw_all := lw_g (lw_at lw_m11 198 rfl) rfl
theorem q2863 : (Jvm.Cond.methodLink "ResourceLedgerModel" (631 : Nat) ({ cls := "ResourceLedgerModel", name := "isLimit", desc := "(I)Z" } : Jvm.MethodName)) ∈ lw_all := lw_g (lw_at lw_m11 199 rfl) rfl
theorem q2864 : (Jvm.Cond.static ({ cls := "ResourceLedgerModel", name := "isLimit", desc := "(I)Z" } : Jvm.MethodName)) ∈ lw_all := lw_g (lw_at lw_m11 200 rfl) rfl
theorem q2865 : (Jvm.Cond.code ({ cls := "ResourceLedgerModel", name := "isLimit", desc := "(I)Z" } : Jvm.MethodName) prog_27_method_64_code (1 : Nat) (Option.some Jvm.ClassFile.FieldType.boolean)) ∈ lw_all := lw_g (lw_at lw_m11 201 rfl) rfl
theorem q2866 : (Jvm.Cond.methodLink "ResourceLedgerModel" (634 : Nat) ({ cls := "ResourceLedgerModel", name := "add", desc := "(IJJI)I" } : Jvm.MethodName)) ∈ lw_all := lw_g (lw_at lw_m11 202 rfl) rfl
theorem q2867 : (Jvm.Cond.privateMethod ({ cls := "ResourceLedgerModel", name := "add", desc := "(IJJI)I" } : Jvm.MethodName)) ∈ lw_tbl := lw_at lw_m11 203 rfl
theorem q2868 : (Jvm.Cond.instanceMethod ({ cls := "ResourceLedgerModel", name := "add", desc := "(IJJI)I" } : Jvm.MethodName)) ∈ lw_all := lw_g (lw_at lw_m11 204 rfl) rfl
theorem q2869 : (Jvm.Cond.code ({ cls := "ResourceLedgerModel", name := "add", desc := "(IJJI)I" } : Jvm.MethodName) prog_27_method_65_code (8 : Nat) (Option.some Jvm.ClassFile.FieldType.int)) ∈ lw_all := lw_g (lw_at lw_m11 205 rfl) rfl
theorem q2871 : (Jvm.Cond.instanceMethod ({ cls := "ResourceLedgerModel", name := "call", desc := "(JJIII)I" } : Jvm.MethodName)) ∈ lw_all := lw_g (lw_at lw_m11 207 rfl) rfl
theorem q2872 : (Jvm.Cond.selects "ResourceLedgerModel" ({ cls := "ResourceLedgerModel", name := "call", desc := "(JJIII)I" } : Jvm.MethodName) ({ cls := "ResourceLedgerModel", name := "call", desc := "(JJIII)I" } : Jvm.MethodName)) ∈ lw_all := lw_g (lw_at lw_m11 208 rfl) rfl
theorem q2873 : (Jvm.Cond.code ({ cls := "ResourceLedgerModel", name := "call", desc := "(JJIII)I" } : Jvm.MethodName) prog_27_method_67_code (9 : Nat) (Option.some Jvm.ClassFile.FieldType.int)) ∈ lw_all := lw_g (lw_at lw_m11 209 rfl) rfl
theorem q2874 : (Jvm.Cond.constant "ResourceLedgerModel" (637 : Nat) (65535 : Int32)) ∈ lw_all := lw_g (lw_at lw_m11 210 rfl) rfl
theorem q2876 : (Jvm.Cond.instanceMethod ({ cls := "ResourceLedgerModel", name := "argument", desc := "(IJJ)I" } : Jvm.MethodName)) ∈ lw_all := lw_g (lw_at lw_m11 212 rfl) rfl
theorem q2877 : (Jvm.Cond.selects "ResourceLedgerModel" ({ cls := "ResourceLedgerModel", name := "argument", desc := "(IJJ)I" } : Jvm.MethodName) ({ cls := "ResourceLedgerModel", name := "argument", desc := "(IJJ)I" } : Jvm.MethodName)) ∈ lw_all := lw_g (lw_at lw_m11 213 rfl) rfl
theorem q2878 : (Jvm.Cond.code ({ cls := "ResourceLedgerModel", name := "argument", desc := "(IJJ)I" } : Jvm.MethodName) prog_27_method_68_code (9 : Nat) (Option.some Jvm.ClassFile.FieldType.int)) ∈ lw_all := lw_g (lw_at lw_m11 214 rfl) rfl
theorem q2879 : (Jvm.Cond.constantLong "ResourceLedgerModel" (638 : Nat) (256 : Int64)) ∈ lw_all := lw_g (lw_at lw_m11 215 rfl) rfl
theorem q2881 : (Jvm.Cond.instanceMethod ({ cls := "ResourceLedgerModel", name := "weave", desc := "(J)I" } : Jvm.MethodName)) ∈ lw_all := lw_g (lw_at lw_m11 217 rfl) rfl
theorem q2882 : (Jvm.Cond.selects "ResourceLedgerModel" ({ cls := "ResourceLedgerModel", name := "weave", desc := "(J)I" } : Jvm.MethodName) ({ cls := "ResourceLedgerModel", name := "weave", desc := "(J)I" } : Jvm.MethodName)) ∈ lw_all := lw_g (lw_at lw_m11 218 rfl) rfl
theorem q2883 : (Jvm.Cond.code ({ cls := "ResourceLedgerModel", name := "weave", desc := "(J)I" } : Jvm.MethodName) prog_27_method_69_code (3 : Nat) (Option.some Jvm.ClassFile.FieldType.int)) ∈ lw_all := lw_g (lw_at lw_m11 219 rfl) rfl
theorem q2885 : (Jvm.Cond.instanceMethod ({ cls := "ResourceLedgerModel", name := "unweave", desc := "()I" } : Jvm.MethodName)) ∈ lw_all := lw_g (lw_at lw_m11 221 rfl) rfl
theorem q2886 : (Jvm.Cond.selects "ResourceLedgerModel" ({ cls := "ResourceLedgerModel", name := "unweave", desc := "()I" } : Jvm.MethodName) ({ cls := "ResourceLedgerModel", name := "unweave", desc := "()I" } : Jvm.MethodName)) ∈ lw_all := lw_g (lw_at lw_m11 222 rfl) rfl
theorem q2887 : (Jvm.Cond.code ({ cls := "ResourceLedgerModel", name := "unweave", desc := "()I" } : Jvm.MethodName) prog_27_method_70_code (2 : Nat) (Option.some Jvm.ClassFile.FieldType.int)) ∈ lw_all := lw_g (lw_at lw_m11 223 rfl) rfl
theorem q2889 : (Jvm.Cond.instanceMethod ({ cls := "ResourceLedgerModel", name := "execute", desc := "()I" } : Jvm.MethodName)) ∈ lw_all := lw_g (lw_at lw_m11 225 rfl) rfl
theorem q2890 : (Jvm.Cond.selects "ResourceLedgerModel" ({ cls := "ResourceLedgerModel", name := "execute", desc := "()I" } : Jvm.MethodName) ({ cls := "ResourceLedgerModel", name := "execute", desc := "()I" } : Jvm.MethodName)) ∈ lw_all := lw_g (lw_at lw_m11 226 rfl) rfl
theorem q2891 : (Jvm.Cond.code ({ cls := "ResourceLedgerModel", name := "execute", desc := "()I" } : Jvm.MethodName) prog_27_method_71_code (3 : Nat) (Option.some Jvm.ClassFile.FieldType.int)) ∈ lw_all := lw_g (lw_at lw_m11 227 rfl) rfl
theorem q2892 : (Jvm.Cond.methodLink "ResourceLedgerModel" (643 : Nat) ({ cls := "ResourceLedgerModel", name := "doOne", desc := "(I)V" } : Jvm.MethodName)) ∈ lw_all := lw_g (lw_at lw_m11 228 rfl) rfl
theorem q2893 : (Jvm.Cond.privateMethod ({ cls := "ResourceLedgerModel", name := "doOne", desc := "(I)V" } : Jvm.MethodName)) ∈ lw_tbl := lw_at lw_m11 229 rfl
theorem q2894 : (Jvm.Cond.instanceMethod ({ cls := "ResourceLedgerModel", name := "doOne", desc := "(I)V" } : Jvm.MethodName)) ∈ lw_all := lw_g (lw_at lw_m11 230 rfl) rfl
theorem q2895 : (Jvm.Cond.code ({ cls := "ResourceLedgerModel", name := "doOne", desc := "(I)V" } : Jvm.MethodName) prog_27_method_72_code (5 : Nat) (Option.none : Option Jvm.ClassFile.FieldType)) ∈ lw_all := lw_g (lw_at lw_m11 231 rfl) rfl
theorem q2896 : (Jvm.Cond.methodLink "ResourceLedgerModel" (106 : Nat) ({ cls := "ResourceLedgerModel", name := "findModule", desc := "(I)I" } : Jvm.MethodName)) ∈ lw_all := lw_g (lw_at lw_m11 232 rfl) rfl
theorem q2897 : (Jvm.Cond.privateMethod ({ cls := "ResourceLedgerModel", name := "findModule", desc := "(I)I" } : Jvm.MethodName)) ∈ lw_tbl := lw_at lw_m11 233 rfl
theorem q2898 : (Jvm.Cond.instanceMethod ({ cls := "ResourceLedgerModel", name := "findModule", desc := "(I)I" } : Jvm.MethodName)) ∈ lw_all := lw_g (lw_at lw_m11 234 rfl) rfl
theorem q2899 : (Jvm.Cond.code ({ cls := "ResourceLedgerModel", name := "findModule", desc := "(I)I" } : Jvm.MethodName) prog_27_method_3_code (3 : Nat) (Option.some Jvm.ClassFile.FieldType.int)) ∈ lw_all := lw_g (lw_at lw_m11 235 rfl) rfl
theorem q2900 : (Jvm.Cond.methodLink "ResourceLedgerModel" (21 : Nat) ({ cls := "ResourceLedgerModel$Unit", name := "number", desc := "()I" } : Jvm.MethodName)) ∈ lw_all := lw_g (lw_at lw_m11 236 rfl) rfl
theorem q2912 : (Jvm.Cond.methodLink "ResourceLedgerModel" (646 : Nat) ({ cls := "ResourceLedgerModel", name := "refusal", desc := "(II)I" } : Jvm.MethodName)) ∈ lw_all := lw_g (lw_at lw_m12 8 rfl) rfl
theorem q2913 : (Jvm.Cond.privateMethod ({ cls := "ResourceLedgerModel", name := "refusal", desc := "(II)I" } : Jvm.MethodName)) ∈ lw_tbl := lw_at lw_m12 9 rfl
theorem q2914 : (Jvm.Cond.instanceMethod ({ cls := "ResourceLedgerModel", name := "refusal", desc := "(II)I" } : Jvm.MethodName)) ∈ lw_all := lw_g (lw_at lw_m12 10 rfl) rfl
theorem q2915 : (Jvm.Cond.code ({ cls := "ResourceLedgerModel", name := "refusal", desc := "(II)I" } : Jvm.MethodName) prog_27_method_73_code (7 : Nat) (Option.some Jvm.ClassFile.FieldType.int)) ∈ lw_all := lw_g (lw_at lw_m12 11 rfl) rfl
theorem q2916 : (Jvm.Cond.methodLink "ResourceLedgerModel" (126 : Nat) ({ cls := "ResourceLedgerModel$Unit", name := "flags", desc := "(I)I" } : Jvm.MethodName)) ∈ lw_all := lw_g (lw_at lw_m12 12 rfl) rfl
theorem q2920 : (Jvm.Cond.methodLink "ResourceLedgerModel" (133 : Nat) ({ cls := "ResourceLedgerModel$Unit", name := "many", desc := "(II)I" } : Jvm.MethodName)) ∈ lw_all := lw_g (lw_at lw_m12 16 rfl) rfl
theorem q2940 : (Jvm.Cond.methodLink "ResourceLedgerModel" (140 : Nat) ({ cls := "ResourceLedgerModel$Unit", name := "listed", desc := "(III)J" } : Jvm.MethodName)) ∈ lw_all := lw_g (lw_at lw_m12 36 rfl) rfl
theorem q2949 : (Jvm.Cond.constantLong "ResourceLedgerModel" (122 : Nat) (5 : Int64)) ∈ lw_all := lw_g (lw_at lw_m12 45 rfl) rfl
theorem q2950 : (Jvm.Cond.methodLink "ResourceLedgerModel" (267 : Nat) ({ cls := "ResourceLedgerModel", name := "end", desc := "(IJ)V" } : Jvm.MethodName)) ∈ lw_all := lw_g (lw_at lw_m12 46 rfl) rfl
theorem q2951 : (Jvm.Cond.privateMethod ({ cls := "ResourceLedgerModel", name := "end", desc := "(IJ)V" } : Jvm.MethodName)) ∈ lw_tbl := lw_at lw_m12 47 rfl
theorem q2952 : (Jvm.Cond.instanceMethod ({ cls := "ResourceLedgerModel", name := "end", desc := "(IJ)V" } : Jvm.MethodName)) ∈ lw_all := lw_g (lw_at lw_m12 48 rfl) rfl
theorem q2953 : (Jvm.Cond.code ({ cls := "ResourceLedgerModel", name := "end", desc := "(IJ)V" } : Jvm.MethodName) prog_27_method_29_code (4 : Nat) (Option.none : Option Jvm.ClassFile.FieldType)) ∈ lw_all := lw_g (lw_at lw_m12 49 rfl) rfl
theorem q2954 : (Jvm.Cond.methodLink "ResourceLedgerModel" (649 : Nat) ({ cls := "ResourceLedgerModel", name := "publishOne", desc := "(I)V" } : Jvm.MethodName)) ∈ lw_all := lw_g (lw_at lw_m12 50 rfl) rfl
theorem q2955 : (Jvm.Cond.privateMethod ({ cls := "ResourceLedgerModel", name := "publishOne", desc := "(I)V" } : Jvm.MethodName)) ∈ lw_tbl := lw_at lw_m12 51 rfl
theorem q2956 : (Jvm.Cond.instanceMethod ({ cls := "ResourceLedgerModel", name := "publishOne", desc := "(I)V" } : Jvm.MethodName)) ∈ lw_all := lw_g (lw_at lw_m12 52 rfl) rfl
theorem q2957 : (Jvm.Cond.code ({ cls := "ResourceLedgerModel", name := "publishOne", desc := "(I)V" } : Jvm.MethodName) prog_27_method_74_code (5 : Nat) (Option.none : Option Jvm.ClassFile.FieldType)) ∈ lw_all := lw_g (lw_at lw_m12 53 rfl) rfl
theorem q2958 : (Jvm.Cond.methodLink "ResourceLedgerModel" (353 : Nat) ({ cls := "ResourceLedgerModel", name := "spend", desc := "(I)Z" } : Jvm.MethodName)) ∈ lw_all := lw_g (lw_at lw_m12 54 rfl) rfl
theorem q2959 : (Jvm.Cond.privateMethod ({ cls := "ResourceLedgerModel", name := "spend", desc := "(I)Z" } : Jvm.MethodName)) ∈ lw_tbl := lw_at lw_m12 55 rfl
theorem q2960 : (Jvm.Cond.instanceMethod ({ cls := "ResourceLedgerModel", name := "spend", desc := "(I)Z" } : Jvm.MethodName)) ∈ lw_all := lw_g (lw_at lw_m12 56 rfl) rfl
theorem q2961 : (Jvm.Cond.code ({ cls := "ResourceLedgerModel", name := "spend", desc := "(I)Z" } : Jvm.MethodName) prog_27_method_30_code (2 : Nat) (Option.some Jvm.ClassFile.FieldType.boolean)) ∈ lw_all := lw_g (lw_at lw_m12 57 rfl) rfl
theorem q2962 : (Jvm.Cond.methodLink "ResourceLedgerModel" (257 : Nat) ({ cls := "ResourceLedgerModel", name := "goesOn", desc := "()Z" } : Jvm.MethodName)) ∈ lw_all := lw_g (lw_at lw_m12 58 rfl) rfl
theorem q2963 : (Jvm.Cond.privateMethod ({ cls := "ResourceLedgerModel", name := "goesOn", desc := "()Z" } : Jvm.MethodName)) ∈ lw_tbl := lw_at lw_m12 59 rfl
theorem q2964 : (Jvm.Cond.instanceMethod ({ cls := "ResourceLedgerModel", name := "goesOn", desc := "()Z" } : Jvm.MethodName)) ∈ lw_all := lw_g (lw_at lw_m12 60 rfl) rfl
theorem q2965 : (Jvm.Cond.code ({ cls := "ResourceLedgerModel", name := "goesOn", desc := "()Z" } : Jvm.MethodName) prog_27_method_28_code (1 : Nat) (Option.some Jvm.ClassFile.FieldType.boolean)) ∈ lw_all := lw_g (lw_at lw_m12 61 rfl) rfl
theorem q2966 : (Jvm.Cond.constantLong "ResourceLedgerModel" (283 : Nat) (4 : Int64)) ∈ lw_all := lw_g (lw_at lw_m12 62 rfl) rfl
theorem q2967 : (Jvm.Cond.methodLink "ResourceLedgerModel" (655 : Nat) ({ cls := "ResourceLedgerModel", name := "takeModule", desc := "([BIII)I" } : Jvm.MethodName)) ∈ lw_all := lw_g (lw_at lw_m12 63 rfl) rfl
theorem q2968 : (Jvm.Cond.privateMethod ({ cls := "ResourceLedgerModel", name := "takeModule", desc := "([BIII)I" } : Jvm.MethodName)) ∈ lw_tbl := lw_at lw_m12 64 rfl
theorem q2969 : (Jvm.Cond.instanceMethod ({ cls := "ResourceLedgerModel", name := "takeModule", desc := "([BIII)I" } : Jvm.MethodName)) ∈ lw_all := lw_g (lw_at lw_m12 65 rfl) rfl
theorem q2970 : (Jvm.Cond.code ({ cls := "ResourceLedgerModel", name := "takeModule", desc := "([BIII)I" } : Jvm.MethodName) prog_27_method_26_code (9 : Nat) (Option.some Jvm.ClassFile.FieldType.int)) ∈ lw_all := lw_g (lw_at lw_m12 66 rfl) rfl
theorem q2971 : (Jvm.Cond.methodLink "ResourceLedgerModel" (208 : Nat) ({ cls := "ResourceLedgerModel$Unit", name := "read", desc := "([BII)I" } : Jvm.MethodName)) ∈ lw_all := lw_g (lw_at lw_m12 67 rfl) rfl
theorem q3062 : (Jvm.Cond.methodLink "ResourceLedgerModel" (218 : Nat) ({ cls := "ResourceLedgerModel", name := "tell", desc := "(II)I" } : Jvm.MethodName)) ∈ lw_all := lw_g (lw_at lw_m12 158 rfl) rfl
theorem q3063 : (Jvm.Cond.privateMethod ({ cls := "ResourceLedgerModel", name := "tell", desc := "(II)I" } : Jvm.MethodName)) ∈ lw_tbl := lw_at lw_m12 159 rfl
theorem q3064 : (Jvm.Cond.instanceMethod ({ cls := "ResourceLedgerModel", name := "tell", desc := "(II)I" } : Jvm.MethodName)) ∈ lw_all := lw_g (lw_at lw_m12 160 rfl) rfl
theorem q3065 : (Jvm.Cond.code ({ cls := "ResourceLedgerModel", name := "tell", desc := "(II)I" } : Jvm.MethodName) prog_27_method_27_code (3 : Nat) (Option.some Jvm.ClassFile.FieldType.int)) ∈ lw_all := lw_g (lw_at lw_m12 161 rfl) rfl
theorem q3066 : (Jvm.Cond.methodLink "ResourceLedgerModel" (186 : Nat) ({ cls := "ResourceLedgerModel$Unit", name := "structureCount", desc := "()I" } : Jvm.MethodName)) ∈ lw_all := lw_g (lw_at lw_m12 162 rfl) rfl
theorem q3070 : (Jvm.Cond.methodLink "ResourceLedgerModel" (143 : Nat) ({ cls := "ResourceLedgerModel$Unit", name := "identity", desc := "(I)I" } : Jvm.MethodName)) ∈ lw_all := lw_g (lw_at lw_m12 166 rfl) rfl
theorem q3075 : (Jvm.Cond.methodLink "ResourceLedgerModel" (175 : Nat) ({ cls := "ResourceLedgerModel", name := "isThere", desc := "(IIZ)Z" } : Jvm.MethodName)) ∈ lw_all := lw_g (lw_at lw_m12 171 rfl) rfl
theorem q3076 : (Jvm.Cond.privateMethod ({ cls := "ResourceLedgerModel", name := "isThere", desc := "(IIZ)Z" } : Jvm.MethodName)) ∈ lw_tbl := lw_at lw_m12 172 rfl
theorem q3077 : (Jvm.Cond.instanceMethod ({ cls := "ResourceLedgerModel", name := "isThere", desc := "(IIZ)Z" } : Jvm.MethodName)) ∈ lw_all := lw_g (lw_at lw_m12 173 rfl) rfl
theorem q3078 : (Jvm.Cond.code ({ cls := "ResourceLedgerModel", name := "isThere", desc := "(IIZ)Z" } : Jvm.MethodName) prog_27_method_12_code (5 : Nat) (Option.some Jvm.ClassFile.FieldType.boolean)) ∈ lw_all := lw_g (lw_at lw_m12 174 rfl) rfl
theorem q3079 : (Jvm.Cond.methodLink "ResourceLedgerModel" (221 : Nat) ({ cls := "ResourceLedgerModel", name := "abilitiesThere", desc := "(II)I" } : Jvm.MethodName)) ∈ lw_all := lw_g (lw_at lw_m12 175 rfl) rfl
theorem q3080 : (Jvm.Cond.privateMethod ({ cls := "ResourceLedgerModel", name := "abilitiesThere", desc := "(II)I" } : Jvm.MethodName)) ∈ lw_tbl := lw_at lw_m12 176 rfl
theorem q3081 : (Jvm.Cond.instanceMethod ({ cls := "ResourceLedgerModel", name := "abilitiesThere", desc := "(II)I" } : Jvm.MethodName)) ∈ lw_all := lw_g (lw_at lw_m12 177 rfl) rfl
theorem q3082 : (Jvm.Cond.code ({ cls := "ResourceLedgerModel", name := "abilitiesThere", desc := "(II)I" } : Jvm.MethodName) prog_27_method_13_code (3 : Nat) (Option.some Jvm.ClassFile.FieldType.int)) ∈ lw_all := lw_g (lw_at lw_m12 178 rfl) rfl
theorem q3083 : (Jvm.Cond.methodLink "ResourceLedgerModel" (115 : Nat) ({ cls := "ResourceLedgerModel$Unit", name := "abilitiesOf", desc := "(I)I" } : Jvm.MethodName)) ∈ lw_all := lw_g (lw_at lw_m12 179 rfl) rfl
theorem q3087 : (Jvm.Cond.methodLink "ResourceLedgerModel" (224 : Nat) ({ cls := "ResourceLedgerModel$Unit", name := "functionCount", desc := "()I" } : Jvm.MethodName)) ∈ lw_all := lw_g (lw_at lw_m12 183 rfl) rfl
theorem q3091 : (Jvm.Cond.methodLink "ResourceLedgerModel" (227 : Nat) ({ cls := "ResourceLedgerModel", name := "isFunctionAs", desc := "(LResourceLedgerModel$Unit;I)Z" } : Jvm.MethodName)) ∈ lw_all := lw_g (lw_at lw_m12 187 rfl) rfl
theorem q3092 : (Jvm.Cond.privateMethod ({ cls := "ResourceLedgerModel", name := "isFunctionAs", desc := "(LResourceLedgerModel$Unit;I)Z" } : Jvm.MethodName)) ∈ lw_tbl := lw_at lw_m12 188 rfl
theorem q3093 : (Jvm.Cond.instanceMethod ({ cls := "ResourceLedgerModel", name := "isFunctionAs", desc := "(LResourceLedgerModel$Unit;I)Z" } : Jvm.MethodName)) ∈ lw_all := lw_g (lw_at lw_m12 189 rfl) rfl
theorem q3094 : (Jvm.Cond.code ({ cls := "ResourceLedgerModel", name := "isFunctionAs", desc := "(LResourceLedgerModel$Unit;I)Z" } : Jvm.MethodName) prog_27_method_23_code (6 : Nat) (Option.some Jvm.ClassFile.FieldType.boolean)) ∈ lw_all := lw_g (lw_at lw_m12 190 rfl) rfl
theorem q3095 : (Jvm.Cond.methodLink "ResourceLedgerModel" (169 : Nat) ({ cls := "ResourceLedgerModel$Unit", name := "foreignModule", desc := "(I)I" } : Jvm.MethodName)) ∈ lw_all := lw_g (lw_at lw_m12 191 rfl) rfl
theorem q3099 : (Jvm.Cond.methodLink "ResourceLedgerModel" (172 : Nat) ({ cls := "ResourceLedgerModel$Unit", name := "foreignNumber", desc := "(I)I" } : Jvm.MethodName)) ∈ lw_all := lw_g (lw_at lw_m12 195 rfl) rfl
theorem q3103 : (Jvm.Cond.methodLink "ResourceLedgerModel" (179 : Nat) ({ cls := "ResourceLedgerModel", name := "flagsThere", desc := "(II)I" } : Jvm.MethodName)) ∈ lw_all := lw_g (lw_at lw_m12 199 rfl) rfl
theorem q3104 : (Jvm.Cond.privateMethod ({ cls := "ResourceLedgerModel", name := "flagsThere", desc := "(II)I" } : Jvm.MethodName)) ∈ lw_tbl := lw_at lw_m12 200 rfl
theorem q3105 : (Jvm.Cond.instanceMethod ({ cls := "ResourceLedgerModel", name := "flagsThere", desc := "(II)I" } : Jvm.MethodName)) ∈ lw_all := lw_g (lw_at lw_m12 201 rfl) rfl
theorem q3106 : (Jvm.Cond.code ({ cls := "ResourceLedgerModel", name := "flagsThere", desc := "(II)I" } : Jvm.MethodName) prog_27_method_16_code (3 : Nat) (Option.some Jvm.ClassFile.FieldType.int)) ∈ lw_all := lw_g (lw_at lw_m12 202 rfl) rfl
theorem q3107 : (Jvm.Cond.methodLink "ResourceLedgerModel" (182 : Nat) ({ cls := "ResourceLedgerModel", name := "isSameList", desc := "(LResourceLedgerModel$Unit;IIII)Z" } : Jvm.MethodName)) ∈ lw_all := lw_g (lw_at lw_m12 203 rfl) rfl
theorem q3108 : (Jvm.Cond.privateMethod ({ cls := "ResourceLedgerModel", name := "isSameList", desc := "(LResourceLedgerModel$Unit;IIII)Z" } : Jvm.MethodName)) ∈ lw_tbl := lw_at lw_m12 204 rfl
theorem q3109 : (Jvm.Cond.instanceMethod ({ cls := "ResourceLedgerModel", name := "isSameList", desc := "(LResourceLedgerModel$Unit;IIII)Z" } : Jvm.MethodName)) ∈ lw_all := lw_g (lw_at lw_m12 205 rfl) rfl
theorem q3110 : (Jvm.Cond.code ({ cls := "ResourceLedgerModel", name := "isSameList", desc := "(LResourceLedgerModel$Unit;IIII)Z" } : Jvm.MethodName) prog_27_method_22_code (9 : Nat) (Option.some Jvm.ClassFile.FieldType.boolean)) ∈ lw_all := lw_g (lw_at lw_m12 206 rfl) rfl
theorem q3111 : (Jvm.Cond.methodLink "ResourceLedgerModel" (157 : Nat) ({ cls := "ResourceLedgerModel", name := "manyThere", desc := "(III)I" } : Jvm.MethodName)) ∈ lw_all := lw_g (lw_at lw_m12 207 rfl) rfl
theorem q3112 : (Jvm.Cond.privateMethod ({ cls := "ResourceLedgerModel", name := "manyThere", desc := "(III)I" } : Jvm.MethodName)) ∈ lw_tbl := lw_at lw_m12 208 rfl
theorem q3113 : (Jvm.Cond.instanceMethod ({ cls := "ResourceLedgerModel", name := "manyThere", desc := "(III)I" } : Jvm.MethodName)) ∈ lw_all := lw_g (lw_at lw_m12 209 rfl) rfl
theorem q3114 : (Jvm.Cond.code ({ cls := "ResourceLedgerModel", name := "manyThere", desc := "(III)I" } : Jvm.MethodName) prog_27_method_17_code (4 : Nat) (Option.some Jvm.ClassFile.FieldType.int)) ∈ lw_all := lw_g (lw_at lw_m12 210 rfl) rfl
theorem q3115 : (Jvm.Cond.methodLink "ResourceLedgerModel" (129 : Nat) ({ cls := "ResourceLedgerModel", name := "coinMany", desc := "(II)I" } : Jvm.MethodName)) ∈ lw_all := lw_g (lw_at lw_m12 211 rfl) rfl
theorem q3116 : (Jvm.Cond.static ({ cls := "ResourceLedgerModel", name := "coinMany", desc := "(II)I" } : Jvm.MethodName)) ∈ lw_all := lw_g (lw_at lw_m12 212 rfl) rfl
theorem q3117 : (Jvm.Cond.code ({ cls := "ResourceLedgerModel", name := "coinMany", desc := "(II)I" } : Jvm.MethodName) prog_27_method_15_code (2 : Nat) (Option.some Jvm.ClassFile.FieldType.int)) ∈ lw_all := lw_g (lw_at lw_m12 213 rfl) rfl
theorem q3118 : (Jvm.Cond.methodLink "ResourceLedgerModel" (161 : Nat) ({ cls := "ResourceLedgerModel", name := "typeThere", desc := "(IIII)J" } : Jvm.MethodName)) ∈ lw_all := lw_g (lw_at lw_m12 214 rfl) rfl
theorem q3119 : (Jvm.Cond.privateMethod ({ cls := "ResourceLedgerModel", name := "typeThere", desc := "(IIII)J" } : Jvm.MethodName)) ∈ lw_tbl := lw_at lw_m12 215 rfl
theorem q3120 : (Jvm.Cond.instanceMethod ({ cls := "ResourceLedgerModel", name := "typeThere", desc := "(IIII)J" } : Jvm.MethodName)) ∈ lw_all := lw_g (lw_at lw_m12 216 rfl) rfl
theorem q3121 : (Jvm.Cond.code ({ cls := "ResourceLedgerModel", name := "typeThere", desc := "(IIII)J" } : Jvm.MethodName) prog_27_method_18_code (5 : Nat) (Option.some Jvm.ClassFile.FieldType.long)) ∈ lw_all := lw_g (lw_at lw_m12 217 rfl) rfl
theorem q3122 : (Jvm.Cond.methodLink "ResourceLedgerModel" (136 : Nat) ({ cls := "ResourceLedgerModel", name := "coinType", desc := "(III)J" } : Jvm.MethodName)) ∈ lw_all := lw_g (lw_at lw_m12 218 rfl) rfl
theorem q3123 : (Jvm.Cond.static ({ cls := "ResourceLedgerModel", name := "coinType", desc := "(III)J" } : Jvm.MethodName)) ∈ lw_all := lw_g (lw_at lw_m12 219 rfl) rfl
theorem q3124 : (Jvm.Cond.code ({ cls := "ResourceLedgerModel", name := "coinType", desc := "(III)J" } : Jvm.MethodName) prog_27_method_14_code (3 : Nat) (Option.some Jvm.ClassFile.FieldType.long)) ∈ lw_all := lw_g (lw_at lw_m12 220 rfl) rfl
theorem q3125 : (Jvm.Cond.constantLong "ResourceLedgerModel" (118 : Nat) (1536 : Int64)) ∈ lw_all := lw_g (lw_at lw_m12 221 rfl) rfl
theorem q3126 : (Jvm.Cond.constantLong "ResourceLedgerModel" (120 : Nat) (3 : Int64)) ∈ lw_all := lw_g (lw_at lw_m12 222 rfl) rfl
theorem q3127 : (Jvm.Cond.constantLong "ResourceLedgerModel" (124 : Nat) (525824 : Int64)) ∈ lw_all := lw_g (lw_at lw_m12 223 rfl) rfl
theorem q3128 : (Jvm.Cond.methodLink "ResourceLedgerModel" (165 : Nat) ({ cls := "ResourceLedgerModel", name := "isSame", desc := "(LResourceLedgerModel$Unit;JIJ)Z" } : Jvm.MethodName)) ∈ lw_all := lw_g (lw_at lw_m12 224 rfl) rfl
theorem q3129 : (Jvm.Cond.privateMethod ({ cls := "ResourceLedgerModel", name := "isSame", desc := "(LResourceLedgerModel$Unit;JIJ)Z" } : Jvm.MethodName)) ∈ lw_tbl := lw_at lw_m12 225 rfl
theorem q3130 : (Jvm.Cond.instanceMethod ({ cls := "ResourceLedgerModel", name := "isSame", desc := "(LResourceLedgerModel$Unit;JIJ)Z" } : Jvm.MethodName)) ∈ lw_all := lw_g (lw_at lw_m12 226 rfl) rfl
theorem q3131 : (Jvm.Cond.code ({ cls := "ResourceLedgerModel", name := "isSame", desc := "(LResourceLedgerModel$Unit;JIJ)Z" } : Jvm.MethodName) prog_27_method_21_code (7 : Nat) (Option.some Jvm.ClassFile.FieldType.boolean)) ∈ lw_all := lw_g (lw_at lw_m12 227 rfl) rfl
theorem q3132 : (Jvm.Cond.methodLink "ResourceLedgerModel" (150 : Nat) ({ cls := "ResourceLedgerModel", name := "endsInStructure", desc := "(J)Z" } : Jvm.MethodName)) ∈ lw_all := lw_g (lw_at lw_m12 228 rfl) rfl
theorem q3133 : (Jvm.Cond.static ({ cls := "ResourceLedgerModel", name := "endsInStructure", desc := "(J)Z" } : Jvm.MethodName)) ∈ lw_all := lw_g (lw_at lw_m12 229 rfl) rfl
theorem q3134 : (Jvm.Cond.code ({ cls := "ResourceLedgerModel", name := "endsInStructure", desc := "(J)Z" } : Jvm.MethodName) prog_27_method_20_code (2 : Nat) (Option.some Jvm.ClassFile.FieldType.boolean)) ∈ lw_all := lw_g (lw_at lw_m12 230 rfl) rfl
theorem q3135 : (Jvm.Cond.constantLong "ResourceLedgerModel" (146 : Nat) (255 : Int64)) ∈ lw_all := lw_g (lw_at lw_m12 231 rfl) rfl
theorem q3136 : (Jvm.Cond.constantLong "ResourceLedgerModel" (148 : Nat) (6 : Int64)) ∈ lw_all := lw_g (lw_at lw_m12 232 rfl) rfl
theorem q3137 : (Jvm.Cond.methodLink "ResourceLedgerModel" (154 : Nat) ({ cls := "ResourceLedgerModel", name := "identityThere", desc := "(II)I" } : Jvm.MethodName)) ∈ lw_all := lw_g (lw_at lw_m12 233 rfl) rfl
theorem q3138 : (Jvm.Cond.privateMethod ({ cls := "ResourceLedgerModel", name := "identityThere", desc := "(II)I" } : Jvm.MethodName)) ∈ lw_tbl := lw_at lw_m12 234 rfl
theorem q3139 : (Jvm.Cond.instanceMethod ({ cls := "ResourceLedgerModel", name := "identityThere", desc := "(II)I" } : Jvm.MethodName)) ∈ lw_all := lw_g (lw_at lw_m12 235 rfl) rfl
theorem q3140 : (Jvm.Cond.code ({ cls := "ResourceLedgerModel", name := "identityThere", desc := "(II)I" } : Jvm.MethodName) prog_27_method_19_code (3 : Nat) (Option.some Jvm.ClassFile.FieldType.int)) ∈ lw_all := lw_g (lw_at lw_m12 236 rfl) rfl
theorem q3141 : (Jvm.Cond.methodLink "ResourceLedgerModel" (235 : Nat) ({ cls := "ResourceLedgerModel$Looker", name := "bears", desc := "(LResourceLedgerModel$Unit;I)Z" } : Jvm.MethodName)) ∈ lw_all := lw_g (lw_at lw_m12 237 rfl) rfl
theorem q3165 : (Jvm.Cond.methodLink "ResourceLedgerModel" (240 : Nat) ({ cls := "ResourceLedgerModel", name := "measure", desc := "(I)V" } : Jvm.MethodName)) ∈ lw_all := lw_g (lw_at lw_m13 21 rfl) rfl
theorem q3166 : (Jvm.Cond.privateMethod ({ cls := "ResourceLedgerModel", name := "measure", desc := "(I)V" } : Jvm.MethodName)) ∈ lw_tbl := lw_at lw_m13 22 rfl
theorem q3167 : (Jvm.Cond.instanceMethod ({ cls := "ResourceLedgerModel", name := "measure", desc := "(I)V" } : Jvm.MethodName)) ∈ lw_all := lw_g (lw_at lw_m13 23 rfl) rfl
theorem q3168 : (Jvm.Cond.code ({ cls := "ResourceLedgerModel", name := "measure", desc := "(I)V" } : Jvm.MethodName) prog_27_method_24_code (7 : Nat) (Option.none : Option Jvm.ClassFile.FieldType)) ∈ lw_all := lw_g (lw_at lw_m13 24 rfl) rfl
theorem q3169 : (Jvm.Cond.methodLinkNest "ResourceLedgerModel" (192 : Nat) ({ cls := "ResourceLedgerModel$Unit", name := "fieldsOf", desc := "(I)I" } : Jvm.MethodName) "ResourceLedgerModel") ∈ lw_tbl := lw_at lw_m13 25 rfl
theorem q3170 : (Jvm.Cond.methodLink "ResourceLedgerModel" (195 : Nat) ({ cls := "ResourceLedgerModel$Unit", name := "field", desc := "(II)J" } : Jvm.MethodName)) ∈ lw_all := lw_g (lw_at lw_m13 26 rfl) rfl
theorem q3171 : (Jvm.Cond.methodLink "ResourceLedgerModel" (199 : Nat) ({ cls := "ResourceLedgerModel", name := "depthOf", desc := "(IJ)I" } : Jvm.MethodName)) ∈ lw_all := lw_g (lw_at lw_m13 27 rfl) rfl
theorem q3172 : (Jvm.Cond.privateMethod ({ cls := "ResourceLedgerModel", name := "depthOf", desc := "(IJ)I" } : Jvm.MethodName)) ∈ lw_tbl := lw_at lw_m13 28 rfl
theorem q3173 : (Jvm.Cond.instanceMethod ({ cls := "ResourceLedgerModel", name := "depthOf", desc := "(IJ)I" } : Jvm.MethodName)) ∈ lw_all := lw_g (lw_at lw_m13 29 rfl) rfl
theorem q3174 : (Jvm.Cond.code ({ cls := "ResourceLedgerModel", name := "depthOf", desc := "(IJ)I" } : Jvm.MethodName) prog_27_method_25_code (6 : Nat) (Option.some Jvm.ClassFile.FieldType.int)) ∈ lw_all := lw_g (lw_at lw_m13 30 rfl) rfl
theorem q3175 : (Jvm.Cond.methodLink "ResourceLedgerModel" (203 : Nat) ({ cls := "java/lang/Math", name := "max", desc := "(II)I" } : Jvm.MethodName)) ∈ lw_all := lw_g (lw_at lw_m13 31 rfl) rfl
theorem q3176 : (Jvm.Cond.methodLink "ResourceLedgerModel" (243 : Nat) ({ cls := "ResourceLedgerModel$Looker", name := "check", desc := "(LResourceLedgerModel$Unit;I)I" } : Jvm.MethodName)) ∈ lw_all := lw_g (lw_at lw_m13 32 rfl) rfl
theorem q3327 : (Jvm.Cond.methodLink "ResourceLedgerModel" (652 : Nat) ({ cls := "ResourceLedgerModel", name := "callOne", desc := "(III)V" } : Jvm.MethodName)) ∈ lw_all := lw_g (lw_at lw_m13 183 rfl) rfl
theorem q3328 : (Jvm.Cond.privateMethod ({ cls := "ResourceLedgerModel", name := "callOne", desc := "(III)V" } : Jvm.MethodName)) ∈ lw_tbl := lw_at lw_m13 184 rfl
theorem q3329 : (Jvm.Cond.instanceMethod ({ cls := "ResourceLedgerModel", name := "callOne", desc := "(III)V" } : Jvm.MethodName)) ∈ lw_all := lw_g (lw_at lw_m13 185 rfl) rfl
theorem q3330 : (Jvm.Cond.code ({ cls := "ResourceLedgerModel", name := "callOne", desc := "(III)V" } : Jvm.MethodName) prog_27_method_75_code (6 : Nat) (Option.none : Option Jvm.ClassFile.FieldType)) ∈ lw_all := lw_g (lw_at lw_m13 186 rfl) rfl
theorem q3331 : (Jvm.Cond.methodLink "ResourceLedgerModel" (414 : Nat) ({ cls := "ResourceLedgerModel", name := "ask", desc := "(IJI)I" } : Jvm.MethodName)) ∈ lw_all := lw_g (lw_at lw_m13 187 rfl) rfl
theorem q3332 : (Jvm.Cond.privateMethod ({ cls := "ResourceLedgerModel", name := "ask", desc := "(IJI)I" } : Jvm.MethodName)) ∈ lw_tbl := lw_at lw_m13 188 rfl
theorem q3333 : (Jvm.Cond.instanceMethod ({ cls := "ResourceLedgerModel", name := "ask", desc := "(IJI)I" } : Jvm.MethodName)) ∈ lw_all := lw_g (lw_at lw_m13 189 rfl) rfl
theorem q3334 : (Jvm.Cond.code ({ cls := "ResourceLedgerModel", name := "ask", desc := "(IJI)I" } : Jvm.MethodName) prog_27_method_31_code (8 : Nat) (Option.some Jvm.ClassFile.FieldType.int)) ∈ lw_all := lw_g (lw_at lw_m13 190 rfl) rfl
theorem q3335 : (Jvm.Cond.methodLink "ResourceLedgerModel" (292 : Nat) ({ cls := "ResourceLedgerModel", name := "findResource", desc := "(JI)I" } : Jvm.MethodName)) ∈ lw_all := lw_g (lw_at lw_m13 191 rfl) rfl
theorem q3336 : (Jvm.Cond.privateMethod ({ cls := "ResourceLedgerModel", name := "findResource", desc := "(JI)I" } : Jvm.MethodName)) ∈ lw_tbl := lw_at lw_m13 192 rfl
theorem q3337 : (Jvm.Cond.instanceMethod ({ cls := "ResourceLedgerModel", name := "findResource", desc := "(JI)I" } : Jvm.MethodName)) ∈ lw_all := lw_g (lw_at lw_m13 193 rfl) rfl
theorem q3338 : (Jvm.Cond.code ({ cls := "ResourceLedgerModel", name := "findResource", desc := "(JI)I" } : Jvm.MethodName) prog_27_method_4_code (5 : Nat) (Option.some Jvm.ClassFile.FieldType.int)) ∈ lw_all := lw_g (lw_at lw_m13 194 rfl) rfl
theorem q3339 : (Jvm.Cond.methodLink "ResourceLedgerModel" (306 : Nat) ({ cls := "ResourceLedgerModel", name := "load", desc := "(I)I" } : Jvm.MethodName)) ∈ lw_all := lw_g (lw_at lw_m13 195 rfl) rfl
theorem q3340 : (Jvm.Cond.privateMethod ({ cls := "ResourceLedgerModel", name := "load", desc := "(I)I" } : Jvm.MethodName)) ∈ lw_tbl := lw_at lw_m13 196 rfl
theorem q3341 : (Jvm.Cond.instanceMethod ({ cls := "ResourceLedgerModel", name := "load", desc := "(I)I" } : Jvm.MethodName)) ∈ lw_all := lw_g (lw_at lw_m13 197 rfl) rfl
theorem q3342 : (Jvm.Cond.code ({ cls := "ResourceLedgerModel", name := "load", desc := "(I)I" } : Jvm.MethodName) prog_27_method_5_code (2 : Nat) (Option.some Jvm.ClassFile.FieldType.int)) ∈ lw_all := lw_g (lw_at lw_m13 198 rfl) rfl
theorem q3343 : (Jvm.Cond.methodLink "ResourceLedgerModel" (37 : Nat) ({ cls := "ResourceLedgerModel", name := "loadOne", desc := "()I" } : Jvm.MethodName)) ∈ lw_all := lw_g (lw_at lw_m13 199 rfl) rfl
theorem q3344 : (Jvm.Cond.privateMethod ({ cls := "ResourceLedgerModel", name := "loadOne", desc := "()I" } : Jvm.MethodName)) ∈ lw_tbl := lw_at lw_m13 200 rfl
theorem q3345 : (Jvm.Cond.instanceMethod ({ cls := "ResourceLedgerModel", name := "loadOne", desc := "()I" } : Jvm.MethodName)) ∈ lw_all := lw_g (lw_at lw_m13 201 rfl) rfl
theorem q3346 : (Jvm.Cond.code ({ cls := "ResourceLedgerModel", name := "loadOne", desc := "()I" } : Jvm.MethodName) prog_27_method_6_code (4 : Nat) (Option.some Jvm.ClassFile.FieldType.int)) ∈ lw_all := lw_g (lw_at lw_m13 202 rfl) rfl
theorem q3347 : (Jvm.Cond.methodLink "ResourceLedgerModel" (54 : Nat) ({ cls := "ResourceLedgerModel$Trees", name := "make", desc := "(IJJ)I" } : Jvm.MethodName)) ∈ lw_all := lw_g (lw_at lw_m13 203 rfl) rfl
theorem q3351 : (Jvm.Cond.methodLink "ResourceLedgerModel" (63 : Nat) ({ cls := "ResourceLedgerModel$Trees", name := "add", desc := "(II)V" } : Jvm.MethodName)) ∈ lw_all := lw_g (lw_at lw_m13 207 rfl) rfl
theorem q3355 : (Jvm.Cond.methodLink "ResourceLedgerModel" (318 : Nat) ({ cls := "ResourceLedgerModel", name := "push", desc := "(IZ)V" } : Jvm.MethodName)) ∈ lw_all := lw_g (lw_at lw_m13 211 rfl) rfl
theorem q3356 : (Jvm.Cond.privateMethod ({ cls := "ResourceLedgerModel", name := "push", desc := "(IZ)V" } : Jvm.MethodName)) ∈ lw_tbl := lw_at lw_m13 212 rfl
theorem q3357 : (Jvm.Cond.instanceMethod ({ cls := "ResourceLedgerModel", name := "push", desc := "(IZ)V" } : Jvm.MethodName)) ∈ lw_all := lw_g (lw_at lw_m13 213 rfl) rfl
theorem q3358 : (Jvm.Cond.code ({ cls := "ResourceLedgerModel", name := "push", desc := "(IZ)V" } : Jvm.MethodName) prog_27_method_32_code (3 : Nat) (Option.none : Option Jvm.ClassFile.FieldType)) ∈ lw_all := lw_g (lw_at lw_m13 214 rfl) rfl
theorem q3359 : (Jvm.Cond.methodLink "ResourceLedgerModel" (451 : Nat) ({ cls := "ResourceLedgerModel", name := "enter", desc := "(III)V" } : Jvm.MethodName)) ∈ lw_all := lw_g (lw_at lw_m13 215 rfl) rfl
theorem q3360 : (Jvm.Cond.privateMethod ({ cls := "ResourceLedgerModel", name := "enter", desc := "(III)V" } : Jvm.MethodName)) ∈ lw_tbl := lw_at lw_m13 216 rfl
theorem q3361 : (Jvm.Cond.instanceMethod ({ cls := "ResourceLedgerModel", name := "enter", desc := "(III)V" } : Jvm.MethodName)) ∈ lw_all := lw_g (lw_at lw_m13 217 rfl) rfl
theorem q3362 : (Jvm.Cond.code ({ cls := "ResourceLedgerModel", name := "enter", desc := "(III)V" } : Jvm.MethodName) prog_27_method_50_code (6 : Nat) (Option.none : Option Jvm.ClassFile.FieldType)) ∈ lw_all := lw_g (lw_at lw_m13 218 rfl) rfl
theorem q3363 : (Jvm.Cond.methodLink "ResourceLedgerModel" (344 : Nat) ({ cls := "ResourceLedgerModel", name := "local", desc := "(I)I" } : Jvm.MethodName)) ∈ lw_all := lw_g (lw_at lw_m13 219 rfl) rfl
theorem q3364 : (Jvm.Cond.privateMethod ({ cls := "ResourceLedgerModel", name := "local", desc := "(I)I" } : Jvm.MethodName)) ∈ lw_tbl := lw_at lw_m13 220 rfl
theorem q3365 : (Jvm.Cond.instanceMethod ({ cls := "ResourceLedgerModel", name := "local", desc := "(I)I" } : Jvm.MethodName)) ∈ lw_all := lw_g (lw_at lw_m13 221 rfl) rfl
theorem q3366 : (Jvm.Cond.code ({ cls := "ResourceLedgerModel", name := "local", desc := "(I)I" } : Jvm.MethodName) prog_27_method_38_code (2 : Nat) (Option.some Jvm.ClassFile.FieldType.int)) ∈ lw_all := lw_g (lw_at lw_m13 222 rfl) rfl
theorem q3367 : (Jvm.Cond.methodLink "ResourceLedgerModel" (662 : Nat) ({ cls := "ResourceLedgerModel", name := "one", desc := "()V" } : Jvm.MethodName)) ∈ lw_all := lw_g (lw_at lw_m13 223 rfl) rfl
theorem q3368 : (Jvm.Cond.privateMethod ({ cls := "ResourceLedgerModel", name := "one", desc := "()V" } : Jvm.MethodName)) ∈ lw_tbl := lw_at lw_m13 224 rfl
theorem q3369 : (Jvm.Cond.instanceMethod ({ cls := "ResourceLedgerModel", name := "one", desc := "()V" } : Jvm.MethodName)) ∈ lw_all := lw_g (lw_at lw_m13 225 rfl) rfl
theorem q3370 : (Jvm.Cond.code ({ cls := "ResourceLedgerModel", name := "one", desc := "()V" } : Jvm.MethodName) prog_27_method_58_code (8 : Nat) (Option.none : Option Jvm.ClassFile.FieldType)) ∈ lw_all := lw_g (lw_at lw_m13 226 rfl) rfl
theorem q3371 : (Jvm.Cond.methodLink "ResourceLedgerModel" (467 : Nat) ({ cls := "ResourceLedgerModel$Unit", name := "instructions", desc := "(I)I" } : Jvm.MethodName)) ∈ lw_all := lw_g (lw_at lw_m13 227 rfl) rfl
theorem q3372 : (Jvm.Cond.methodLink "ResourceLedgerModel" (331 : Nat) ({ cls := "ResourceLedgerModel", name := "slip", desc := "()V" } : Jvm.MethodName)) ∈ lw_all := lw_g (lw_at lw_m13 228 rfl) rfl
theorem q3373 : (Jvm.Cond.privateMethod ({ cls := "ResourceLedgerModel", name := "slip", desc := "()V" } : Jvm.MethodName)) ∈ lw_tbl := lw_at lw_m13 229 rfl
theorem q3374 : (Jvm.Cond.instanceMethod ({ cls := "ResourceLedgerModel", name := "slip", desc := "()V" } : Jvm.MethodName)) ∈ lw_all := lw_g (lw_at lw_m13 230 rfl) rfl
theorem q3375 : (Jvm.Cond.code ({ cls := "ResourceLedgerModel", name := "slip", desc := "()V" } : Jvm.MethodName) prog_27_method_34_code (1 : Nat) (Option.none : Option Jvm.ClassFile.FieldType)) ∈ lw_all := lw_g (lw_at lw_m13 231 rfl) rfl
theorem q3376 : (Jvm.Cond.methodLink "ResourceLedgerModel" (470 : Nat) ({ cls := "ResourceLedgerModel$Unit", name := "operation", desc := "(II)I" } : Jvm.MethodName)) ∈ lw_all := lw_g (lw_at lw_m13 232 rfl) rfl
theorem q3377 : (Jvm.Cond.methodLink "ResourceLedgerModel" (473 : Nat) ({ cls := "ResourceLedgerModel$Unit", name := "operand", desc := "(III)J" } : Jvm.MethodName)) ∈ lw_all := lw_g (lw_at lw_m13 233 rfl) rfl
theorem q3378 : (Jvm.Cond.methodLink "ResourceLedgerModel" (476 : Nat) ({ cls := "ResourceLedgerModel", name := "giveBack", desc := "()V" } : Jvm.MethodName)) ∈ lw_all := lw_g (lw_at lw_m13 234 rfl) rfl
theorem q3379 : (Jvm.Cond.privateMethod ({ cls := "ResourceLedgerModel", name := "giveBack", desc := "()V" } : Jvm.MethodName)) ∈ lw_tbl := lw_at lw_m13 235 rfl
theorem q3380 : (Jvm.Cond.instanceMethod ({ cls := "ResourceLedgerModel", name := "giveBack", desc := "()V" } : Jvm.MethodName)) ∈ lw_all := lw_g (lw_at lw_m13 236 rfl) rfl
theorem q3381 : (Jvm.Cond.code ({ cls := "ResourceLedgerModel", name := "giveBack", desc := "()V" } : Jvm.MethodName) prog_27_method_55_code (2 : Nat) (Option.none : Option Jvm.ClassFile.FieldType)) ∈ lw_all := lw_g (lw_at lw_m13 237 rfl) rfl
theorem q3382 : (Jvm.Cond.methodLink "ResourceLedgerModel" (479 : Nat) ({ cls := "ResourceLedgerModel", name := "branch", desc := "(II)V" } : Jvm.MethodName)) ∈ lw_all := lw_g (lw_at lw_m13 238 rfl) rfl
theorem q3383 : (Jvm.Cond.privateMethod ({ cls := "ResourceLedgerModel", name := "branch", desc := "(II)V" } : Jvm.MethodName)) ∈ lw_tbl := lw_at lw_m13 239 rfl
theorem q3384 : (Jvm.Cond.instanceMethod ({ cls := "ResourceLedgerModel", name := "branch", desc := "(II)V" } : Jvm.MethodName)) ∈ lw_all := lw_g (lw_at lw_m14 0 rfl) rfl
theorem q3385 : (Jvm.Cond.code ({ cls := "ResourceLedgerModel", name := "branch", desc := "(II)V" } : Jvm.MethodName) prog_27_method_56_code (5 : Nat) (Option.none : Option Jvm.ClassFile.FieldType)) ∈ lw_all := lw_g (lw_at lw_m14 1 rfl) rfl
theorem q3386 : (Jvm.Cond.methodLink "ResourceLedgerModel" (341 : Nat) ({ cls := "ResourceLedgerModel", name := "take", desc := "(I)I" } : Jvm.MethodName)) ∈ lw_all := lw_g (lw_at lw_m14 2 rfl) rfl
theorem q3387 : (Jvm.Cond.privateMethod ({ cls := "ResourceLedgerModel", name := "take", desc := "(I)I" } : Jvm.MethodName)) ∈ lw_tbl := lw_at lw_m14 3 rfl
theorem q3388 : (Jvm.Cond.instanceMethod ({ cls := "ResourceLedgerModel", name := "take", desc := "(I)I" } : Jvm.MethodName)) ∈ lw_all := lw_g (lw_at lw_m14 4 rfl) rfl
theorem q3389 : (Jvm.Cond.code ({ cls := "ResourceLedgerModel", name := "take", desc := "(I)I" } : Jvm.MethodName) prog_27_method_36_code (3 : Nat) (Option.some Jvm.ClassFile.FieldType.int)) ∈ lw_all := lw_g (lw_at lw_m14 5 rfl) rfl
theorem q3390 : (Jvm.Cond.methodLink "ResourceLedgerModel" (337 : Nat) ({ cls := "ResourceLedgerModel", name := "takeAny", desc := "(Z)I" } : Jvm.MethodName)) ∈ lw_all := lw_g (lw_at lw_m14 6 rfl) rfl
theorem q3391 : (Jvm.Cond.privateMethod ({ cls := "ResourceLedgerModel", name := "takeAny", desc := "(Z)I" } : Jvm.MethodName)) ∈ lw_tbl := lw_at lw_m14 7 rfl
theorem q3392 : (Jvm.Cond.instanceMethod ({ cls := "ResourceLedgerModel", name := "takeAny", desc := "(Z)I" } : Jvm.MethodName)) ∈ lw_all := lw_g (lw_at lw_m14 8 rfl) rfl
theorem q3393 : (Jvm.Cond.code ({ cls := "ResourceLedgerModel", name := "takeAny", desc := "(Z)I" } : Jvm.MethodName) prog_27_method_35_code (2 : Nat) (Option.some Jvm.ClassFile.FieldType.int)) ∈ lw_all := lw_g (lw_at lw_m14 9 rfl) rfl
theorem q3394 : (Jvm.Cond.methodLink "ResourceLedgerModel" (482 : Nat) ({ cls := "ResourceLedgerModel", name := "constant", desc := "(IJJ)V" } : Jvm.MethodName)) ∈ lw_all := lw_g (lw_at lw_m14 10 rfl) rfl
theorem q3395 : (Jvm.Cond.privateMethod ({ cls := "ResourceLedgerModel", name := "constant", desc := "(IJJ)V" } : Jvm.MethodName)) ∈ lw_tbl := lw_at lw_m14 11 rfl
theorem q3396 : (Jvm.Cond.instanceMethod ({ cls := "ResourceLedgerModel", name := "constant", desc := "(IJJ)V" } : Jvm.MethodName)) ∈ lw_all := lw_g (lw_at lw_m14 12 rfl) rfl
theorem q3397 : (Jvm.Cond.code ({ cls := "ResourceLedgerModel", name := "constant", desc := "(IJJ)V" } : Jvm.MethodName) prog_27_method_57_code (6 : Nat) (Option.none : Option Jvm.ClassFile.FieldType)) ∈ lw_all := lw_g (lw_at lw_m14 13 rfl) rfl
theorem q3398 : (Jvm.Cond.methodLink "ResourceLedgerModel" (392 : Nat) ({ cls := "ResourceLedgerModel", name := "make", desc := "(IJJ)V" } : Jvm.MethodName)) ∈ lw_all := lw_g (lw_at lw_m14 14 rfl) rfl
theorem q3399 : (Jvm.Cond.privateMethod ({ cls := "ResourceLedgerModel", name := "make", desc := "(IJJ)V" } : Jvm.MethodName)) ∈ lw_tbl := lw_at lw_m14 15 rfl
theorem q3400 : (Jvm.Cond.instanceMethod ({ cls := "ResourceLedgerModel", name := "make", desc := "(IJJ)V" } : Jvm.MethodName)) ∈ lw_all := lw_g (lw_at lw_m14 16 rfl) rfl
theorem q3401 : (Jvm.Cond.code ({ cls := "ResourceLedgerModel", name := "make", desc := "(IJJ)V" } : Jvm.MethodName) prog_27_method_33_code (6 : Nat) (Option.none : Option Jvm.ClassFile.FieldType)) ∈ lw_all := lw_g (lw_at lw_m14 17 rfl) rfl
theorem q3402 : (Jvm.Cond.methodLink "ResourceLedgerModel" (485 : Nat) ({ cls := "ResourceLedgerModel", name := "onLocal", desc := "(II)V" } : Jvm.MethodName)) ∈ lw_all := lw_g (lw_at lw_m14 18 rfl) rfl
theorem q3403 : (Jvm.Cond.privateMethod ({ cls := "ResourceLedgerModel", name := "onLocal", desc := "(II)V" } : Jvm.MethodName)) ∈ lw_tbl := lw_at lw_m14 19 rfl
theorem q3404 : (Jvm.Cond.instanceMethod ({ cls := "ResourceLedgerModel", name := "onLocal", desc := "(II)V" } : Jvm.MethodName)) ∈ lw_all := lw_g (lw_at lw_m14 20 rfl) rfl
theorem q3405 : (Jvm.Cond.code ({ cls := "ResourceLedgerModel", name := "onLocal", desc := "(II)V" } : Jvm.MethodName) prog_27_method_40_code (5 : Nat) (Option.none : Option Jvm.ClassFile.FieldType)) ∈ lw_all := lw_g (lw_at lw_m14 21 rfl) rfl
theorem q3406 : (Jvm.Cond.methodLink "ResourceLedgerModel" (357 : Nat) ({ cls := "ResourceLedgerModel$Trees", name := "sizeOf", desc := "(I)I" } : Jvm.MethodName)) ∈ lw_all := lw_g (lw_at lw_m14 22 rfl) rfl
theorem q3411 : (Jvm.Cond.methodLink "ResourceLedgerModel" (360 : Nat) ({ cls := "ResourceLedgerModel$Trees", name := "copy", desc := "(I)I" } : Jvm.MethodName)) ∈ lw_all := lw_g (lw_at lw_m14 27 rfl) rfl
theorem q3418 : (Jvm.Cond.methodLink "ResourceLedgerModel" (488 : Nat) ({ cls := "ResourceLedgerModel", name := "onReference", desc := "(II)V" } : Jvm.MethodName)) ∈ lw_all := lw_g (lw_at lw_m14 34 rfl) rfl
theorem q3419 : (Jvm.Cond.privateMethod ({ cls := "ResourceLedgerModel", name := "onReference", desc := "(II)V" } : Jvm.MethodName)) ∈ lw_tbl := lw_at lw_m14 35 rfl
theorem q3420 : (Jvm.Cond.instanceMethod ({ cls := "ResourceLedgerModel", name := "onReference", desc := "(II)V" } : Jvm.MethodName)) ∈ lw_all := lw_g (lw_at lw_m14 36 rfl) rfl
theorem q3421 : (Jvm.Cond.code ({ cls := "ResourceLedgerModel", name := "onReference", desc := "(II)V" } : Jvm.MethodName) prog_27_method_41_code (5 : Nat) (Option.none : Option Jvm.ClassFile.FieldType)) ∈ lw_all := lw_g (lw_at lw_m14 37 rfl) rfl
theorem q3422 : (Jvm.Cond.methodLink "ResourceLedgerModel" (363 : Nat) ({ cls := "ResourceLedgerModel$Trees", name := "become", desc := "(II)V" } : Jvm.MethodName)) ∈ lw_all := lw_g (lw_at lw_m14 38 rfl) rfl
theorem q3426 : (Jvm.Cond.methodLink "ResourceLedgerModel" (366 : Nat) ({ cls := "ResourceLedgerModel$Trees", name := "part", desc := "(IJ)I" } : Jvm.MethodName)) ∈ lw_all := lw_g (lw_at lw_m14 42 rfl) rfl
theorem q3430 : (Jvm.Cond.methodLink "ResourceLedgerModel" (491 : Nat) ({ cls := "ResourceLedgerModel", name := "pack", desc := "(I)V" } : Jvm.MethodName)) ∈ lw_all := lw_g (lw_at lw_m14 46 rfl) rfl
theorem q3431 : (Jvm.Cond.privateMethod ({ cls := "ResourceLedgerModel", name := "pack", desc := "(I)V" } : Jvm.MethodName)) ∈ lw_tbl := lw_at lw_m14 47 rfl
theorem q3432 : (Jvm.Cond.instanceMethod ({ cls := "ResourceLedgerModel", name := "pack", desc := "(I)V" } : Jvm.MethodName)) ∈ lw_all := lw_g (lw_at lw_m14 48 rfl) rfl
theorem q3433 : (Jvm.Cond.code ({ cls := "ResourceLedgerModel", name := "pack", desc := "(I)V" } : Jvm.MethodName) prog_27_method_42_code (5 : Nat) (Option.none : Option Jvm.ClassFile.FieldType)) ∈ lw_all := lw_g (lw_at lw_m14 49 rfl) rfl
theorem q3434 : (Jvm.Cond.methodLink "ResourceLedgerModel" (494 : Nat) ({ cls := "ResourceLedgerModel", name := "unpack", desc := "(I)V" } : Jvm.MethodName)) ∈ lw_all := lw_g (lw_at lw_m14 50 rfl) rfl
theorem q3435 : (Jvm.Cond.privateMethod ({ cls := "ResourceLedgerModel", name := "unpack", desc := "(I)V" } : Jvm.MethodName)) ∈ lw_tbl := lw_at lw_m14 51 rfl
theorem q3436 : (Jvm.Cond.instanceMethod ({ cls := "ResourceLedgerModel", name := "unpack", desc := "(I)V" } : Jvm.MethodName)) ∈ lw_all := lw_g (lw_at lw_m14 52 rfl) rfl
theorem q3437 : (Jvm.Cond.code ({ cls := "ResourceLedgerModel", name := "unpack", desc := "(I)V" } : Jvm.MethodName) prog_27_method_43_code (5 : Nat) (Option.none : Option Jvm.ClassFile.FieldType)) ∈ lw_all := lw_g (lw_at lw_m14 53 rfl) rfl
theorem q3438 : (Jvm.Cond.methodLink "ResourceLedgerModel" (497 : Nat) ({ cls := "ResourceLedgerModel", name := "enterCall", desc := "(I)V" } : Jvm.MethodName)) ∈ lw_all := lw_g (lw_at lw_m14 54 rfl) rfl
theorem q3439 : (Jvm.Cond.privateMethod ({ cls := "ResourceLedgerModel", name := "enterCall", desc := "(I)V" } : Jvm.MethodName)) ∈ lw_tbl := lw_at lw_m14 55 rfl
theorem q3440 : (Jvm.Cond.instanceMethod ({ cls := "ResourceLedgerModel", name := "enterCall", desc := "(I)V" } : Jvm.MethodName)) ∈ lw_all := lw_g (lw_at lw_m14 56 rfl) rfl
theorem q3441 : (Jvm.Cond.code ({ cls := "ResourceLedgerModel", name := "enterCall", desc := "(I)V" } : Jvm.MethodName) prog_27_method_51_code (6 : Nat) (Option.none : Option Jvm.ClassFile.FieldType)) ∈ lw_all := lw_g (lw_at lw_m14 57 rfl) rfl
theorem q3442 : (Jvm.Cond.methodLink "ResourceLedgerModel" (448 : Nat) ({ cls := "ResourceLedgerModel", name := "coin", desc := "(I)V" } : Jvm.MethodName)) ∈ lw_all := lw_g (lw_at lw_m14 58 rfl) rfl
theorem q3443 : (Jvm.Cond.privateMethod ({ cls := "ResourceLedgerModel", name := "coin", desc := "(I)V" } : Jvm.MethodName)) ∈ lw_tbl := lw_at lw_m14 59 rfl
theorem q3444 : (Jvm.Cond.instanceMethod ({ cls := "ResourceLedgerModel", name := "coin", desc := "(I)V" } : Jvm.MethodName)) ∈ lw_all := lw_g (lw_at lw_m14 60 rfl) rfl
theorem q3445 : (Jvm.Cond.code ({ cls := "ResourceLedgerModel", name := "coin", desc := "(I)V" } : Jvm.MethodName) prog_27_method_54_code (7 : Nat) (Option.none : Option Jvm.ClassFile.FieldType)) ∈ lw_all := lw_g (lw_at lw_m14 61 rfl) rfl
theorem q3446 : (Jvm.Cond.methodLink "ResourceLedgerModel" (421 : Nat) ({ cls := "ResourceLedgerModel", name := "takeLong", desc := "()J" } : Jvm.MethodName)) ∈ lw_all := lw_g (lw_at lw_m14 62 rfl) rfl
theorem q3447 : (Jvm.Cond.privateMethod ({ cls := "ResourceLedgerModel", name := "takeLong", desc := "()J" } : Jvm.MethodName)) ∈ lw_tbl := lw_at lw_m14 63 rfl
theorem q3448 : (Jvm.Cond.instanceMethod ({ cls := "ResourceLedgerModel", name := "takeLong", desc := "()J" } : Jvm.MethodName)) ∈ lw_all := lw_g (lw_at lw_m14 64 rfl) rfl
theorem q3449 : (Jvm.Cond.code ({ cls := "ResourceLedgerModel", name := "takeLong", desc := "()J" } : Jvm.MethodName) prog_27_method_37_code (2 : Nat) (Option.some Jvm.ClassFile.FieldType.long)) ∈ lw_all := lw_g (lw_at lw_m14 65 rfl) rfl
theorem q3450 : (Jvm.Cond.methodLink "ResourceLedgerModel" (459 : Nat) ({ cls := "ResourceLedgerModel", name := "isBelow", desc := "(JJ)Z" } : Jvm.MethodName)) ∈ lw_all := lw_g (lw_at lw_m14 66 rfl) rfl
theorem q3451 : (Jvm.Cond.static ({ cls := "ResourceLedgerModel", name := "isBelow", desc := "(JJ)Z" } : Jvm.MethodName)) ∈ lw_all := lw_g (lw_at lw_m14 67 rfl) rfl
theorem q3452 : (Jvm.Cond.code ({ cls := "ResourceLedgerModel", name := "isBelow", desc := "(JJ)Z" } : Jvm.MethodName) prog_27_method_53_code (4 : Nat) (Option.some Jvm.ClassFile.FieldType.boolean)) ∈ lw_all := lw_g (lw_at lw_m14 68 rfl) rfl
theorem q3453 : (Jvm.Cond.constantLong "ResourceLedgerModel" (457 : Nat) (-9223372036854775808 : Int64)) ∈ lw_all := lw_g (lw_at lw_m14 69 rfl) rfl
theorem q3454 : (Jvm.Cond.methodLink "ResourceLedgerModel" (463 : Nat) ({ cls := "ResourceLedgerModel", name := "makeCoin", desc := "(J)V" } : Jvm.MethodName)) ∈ lw_all := lw_g (lw_at lw_m14 70 rfl) rfl
theorem q3455 : (Jvm.Cond.privateMethod ({ cls := "ResourceLedgerModel", name := "makeCoin", desc := "(J)V" } : Jvm.MethodName)) ∈ lw_tbl := lw_at lw_m14 71 rfl
theorem q3456 : (Jvm.Cond.instanceMethod ({ cls := "ResourceLedgerModel", name := "makeCoin", desc := "(J)V" } : Jvm.MethodName)) ∈ lw_all := lw_g (lw_at lw_m14 72 rfl) rfl
theorem q3457 : (Jvm.Cond.code ({ cls := "ResourceLedgerModel", name := "makeCoin", desc := "(J)V" } : Jvm.MethodName) prog_27_method_52_code (4 : Nat) (Option.none : Option Jvm.ClassFile.FieldType)) ∈ lw_all := lw_g (lw_at lw_m14 73 rfl) rfl
theorem q3458 : (Jvm.Cond.constantLong "ResourceLedgerModel" (425 : Nat) (2 : Int64)) ∈ lw_all := lw_g (lw_at lw_m14 74 rfl) rfl
theorem q3459 : (Jvm.Cond.methodLink "ResourceLedgerModel" (500 : Nat) ({ cls := "ResourceLedgerModel", name := "shift", desc := "(Z)V" } : Jvm.MethodName)) ∈ lw_all := lw_g (lw_at lw_m14 75 rfl) rfl
theorem q3460 : (Jvm.Cond.privateMethod ({ cls := "ResourceLedgerModel", name := "shift", desc := "(Z)V" } : Jvm.MethodName)) ∈ lw_tbl := lw_at lw_m14 76 rfl
theorem q3461 : (Jvm.Cond.instanceMethod ({ cls := "ResourceLedgerModel", name := "shift", desc := "(Z)V" } : Jvm.MethodName)) ∈ lw_all := lw_g (lw_at lw_m14 77 rfl) rfl
theorem q3462 : (Jvm.Cond.code ({ cls := "ResourceLedgerModel", name := "shift", desc := "(Z)V" } : Jvm.MethodName) prog_27_method_45_code (5 : Nat) (Option.none : Option Jvm.ClassFile.FieldType)) ∈ lw_all := lw_g (lw_at lw_m14 78 rfl) rfl
theorem q3463 : (Jvm.Cond.methodLink "ResourceLedgerModel" (377 : Nat) ({ cls := "ResourceLedgerModel", name := "bitsOf", desc := "(I)I" } : Jvm.MethodName)) ∈ lw_all := lw_g (lw_at lw_m14 79 rfl) rfl
theorem q3464 : (Jvm.Cond.static ({ cls := "ResourceLedgerModel", name := "bitsOf", desc := "(I)I" } : Jvm.MethodName)) ∈ lw_all := lw_g (lw_at lw_m14 80 rfl) rfl
theorem q3465 : (Jvm.Cond.code ({ cls := "ResourceLedgerModel", name := "bitsOf", desc := "(I)I" } : Jvm.MethodName) prog_27_method_39_code (1 : Nat) (Option.some Jvm.ClassFile.FieldType.int)) ∈ lw_all := lw_g (lw_at lw_m14 81 rfl) rfl
theorem q3466 : (Jvm.Cond.methodLink "ResourceLedgerModel" (403 : Nat) ({ cls := "ResourceLedgerModel$Wide", name := "shift", desc := "(ZJJII)V" } : Jvm.MethodName)) ∈ lw_all := lw_g (lw_at lw_m14 82 rfl) rfl
theorem q3471 : (Jvm.Cond.methodLink "ResourceLedgerModel" (503 : Nat) ({ cls := "ResourceLedgerModel", name := "reckon", desc := "(I)V" } : Jvm.MethodName)) ∈ lw_all := lw_g (lw_at lw_m14 87 rfl) rfl
theorem q3472 : (Jvm.Cond.privateMethod ({ cls := "ResourceLedgerModel", name := "reckon", desc := "(I)V" } : Jvm.MethodName)) ∈ lw_tbl := lw_at lw_m14 88 rfl
theorem q3473 : (Jvm.Cond.instanceMethod ({ cls := "ResourceLedgerModel", name := "reckon", desc := "(I)V" } : Jvm.MethodName)) ∈ lw_all := lw_g (lw_at lw_m14 89 rfl) rfl
theorem q3474 : (Jvm.Cond.code ({ cls := "ResourceLedgerModel", name := "reckon", desc := "(I)V" } : Jvm.MethodName) prog_27_method_44_code (15 : Nat) (Option.none : Option Jvm.ClassFile.FieldType)) ∈ lw_all := lw_g (lw_at lw_m14 90 rfl) rfl
theorem q3475 : (Jvm.Cond.methodLink "ResourceLedgerModel" (380 : Nat) ({ cls := "ResourceLedgerModel$Wide", name := "reckon", desc := "(IJJJJI)Z" } : Jvm.MethodName)) ∈ lw_all := lw_g (lw_at lw_m14 91 rfl) rfl
theorem q3518 : (Jvm.Cond.methodLink "ResourceLedgerModel" (395 : Nat) ({ cls := "ResourceLedgerModel$Trees", name := "isAlike", desc := "(II)Z" } : Jvm.MethodName)) ∈ lw_all := lw_g (lw_at lw_m14 134 rfl) rfl
theorem q3523 : (Jvm.Cond.methodLink "ResourceLedgerModel" (399 : Nat) ({ cls := "ResourceLedgerModel$Wide", name := "compare", desc := "(JJJJ)I" } : Jvm.MethodName)) ∈ lw_all := lw_g (lw_at lw_m14 139 rfl) rfl
theorem q3524 : (Jvm.Cond.methodLink "ResourceLedgerModel" (505 : Nat) ({ cls := "ResourceLedgerModel", name := "convert", desc := "(I)V" } : Jvm.MethodName)) ∈ lw_all := lw_g (lw_at lw_m14 140 rfl) rfl
theorem q3525 : (Jvm.Cond.privateMethod ({ cls := "ResourceLedgerModel", name := "convert", desc := "(I)V" } : Jvm.MethodName)) ∈ lw_tbl := lw_at lw_m14 141 rfl
theorem q3526 : (Jvm.Cond.instanceMethod ({ cls := "ResourceLedgerModel", name := "convert", desc := "(I)V" } : Jvm.MethodName)) ∈ lw_all := lw_g (lw_at lw_m14 142 rfl) rfl
theorem q3527 : (Jvm.Cond.code ({ cls := "ResourceLedgerModel", name := "convert", desc := "(I)V" } : Jvm.MethodName) prog_27_method_46_code (3 : Nat) (Option.none : Option Jvm.ClassFile.FieldType)) ∈ lw_all := lw_g (lw_at lw_m14 143 rfl) rfl
theorem q3528 : (Jvm.Cond.methodLink "ResourceLedgerModel" (407 : Nat) ({ cls := "ResourceLedgerModel$Wide", name := "isOf", desc := "(JJI)Z" } : Jvm.MethodName)) ∈ lw_all := lw_g (lw_at lw_m14 144 rfl) rfl
theorem q3529 : (Jvm.Cond.methodLink "ResourceLedgerModel" (508 : Nat) ({ cls := "ResourceLedgerModel", name := "onResource", desc := "(II)V" } : Jvm.MethodName)) ∈ lw_all := lw_g (lw_at lw_m14 145 rfl) rfl
theorem q3530 : (Jvm.Cond.privateMethod ({ cls := "ResourceLedgerModel", name := "onResource", desc := "(II)V" } : Jvm.MethodName)) ∈ lw_tbl := lw_at lw_m14 146 rfl
theorem q3531 : (Jvm.Cond.instanceMethod ({ cls := "ResourceLedgerModel", name := "onResource", desc := "(II)V" } : Jvm.MethodName)) ∈ lw_all := lw_g (lw_at lw_m14 147 rfl) rfl
theorem q3532 : (Jvm.Cond.code ({ cls := "ResourceLedgerModel", name := "onResource", desc := "(II)V" } : Jvm.MethodName) prog_27_method_47_code (6 : Nat) (Option.none : Option Jvm.ClassFile.FieldType)) ∈ lw_all := lw_g (lw_at lw_m14 148 rfl) rfl
theorem q3533 : (Jvm.Cond.methodLink "ResourceLedgerModel" (511 : Nat) ({ cls := "ResourceLedgerModel", name := "onVector", desc := "(II)V" } : Jvm.MethodName)) ∈ lw_all := lw_g (lw_at lw_m14 149 rfl) rfl
theorem q3534 : (Jvm.Cond.privateMethod ({ cls := "ResourceLedgerModel", name := "onVector", desc := "(II)V" } : Jvm.MethodName)) ∈ lw_tbl := lw_at lw_m14 150 rfl
theorem q3535 : (Jvm.Cond.instanceMethod ({ cls := "ResourceLedgerModel", name := "onVector", desc := "(II)V" } : Jvm.MethodName)) ∈ lw_all := lw_g (lw_at lw_m14 151 rfl) rfl
theorem q3536 : (Jvm.Cond.code ({ cls := "ResourceLedgerModel", name := "onVector", desc := "(II)V" } : Jvm.MethodName) prog_27_method_48_code (11 : Nat) (Option.none : Option Jvm.ClassFile.FieldType)) ∈ lw_all := lw_g (lw_at lw_m14 152 rfl) rfl
theorem q3537 : (Jvm.Cond.methodLink "ResourceLedgerModel" (418 : Nat) ({ cls := "ResourceLedgerModel", name := "digest", desc := "()V" } : Jvm.MethodName)) ∈ lw_all := lw_g (lw_at lw_m14 153 rfl) rfl
theorem q3538 : (Jvm.Cond.privateMethod ({ cls := "ResourceLedgerModel", name := "digest", desc := "()V" } : Jvm.MethodName)) ∈ lw_tbl := lw_at lw_m14 154 rfl
theorem q3539 : (Jvm.Cond.instanceMethod ({ cls := "ResourceLedgerModel", name := "digest", desc := "()V" } : Jvm.MethodName)) ∈ lw_all := lw_g (lw_at lw_m14 155 rfl) rfl
theorem q3540 : (Jvm.Cond.code ({ cls := "ResourceLedgerModel", name := "digest", desc := "()V" } : Jvm.MethodName) prog_27_method_49_code (4 : Nat) (Option.none : Option Jvm.ClassFile.FieldType)) ∈ lw_all := lw_g (lw_at lw_m14 156 rfl) rfl
theorem q3541 : (Jvm.Cond.methodLink "ResourceLedgerModel" (80 : Nat) ({ cls := "ResourceLedgerModel$Trees", name := "count", desc := "(I)I" } : Jvm.MethodName)) ∈ lw_all := lw_g (lw_at lw_m14 157 rfl) rfl
theorem q3545 : (Jvm.Cond.methodLink "ResourceLedgerModel" (433 : Nat) ({ cls := "ResourceLedgerModel$Digester", name := "begin", desc := "()V" } : Jvm.MethodName)) ∈ lw_all := lw_g (lw_at lw_m14 161 rfl) rfl
theorem q3549 : (Jvm.Cond.methodLink "ResourceLedgerModel" (98 : Nat) ({ cls := "ResourceLedgerModel$Digester", name := "add", desc := "(I)V" } : Jvm.MethodName)) ∈ lw_all := lw_g (lw_at lw_m14 165 rfl) rfl
theorem q3553 : (Jvm.Cond.methodLink "ResourceLedgerModel" (436 : Nat) ({ cls := "ResourceLedgerModel$Digester", name := "end", desc := "()V" } : Jvm.MethodName)) ∈ lw_all := lw_g (lw_at lw_m14 169 rfl) rfl
theorem q3582 : (Jvm.Cond.methodLink "ResourceLedgerModel" (438 : Nat) ({ cls := "ResourceLedgerModel$Digester", name := "byteOf", desc := "(I)I" } : Jvm.MethodName)) ∈ lw_all := lw_g (lw_at lw_m14 198 rfl) rfl
theorem q3587 : (Jvm.Cond.methodLink "ResourceLedgerModel" (427 : Nat) ({ cls := "ResourceLedgerModel$Trees", name := "takeLast", desc := "(I)I" } : Jvm.MethodName)) ∈ lw_all := lw_g (lw_at lw_m14 203 rfl) rfl
theorem q3591 : (Jvm.Cond.methodLink "ResourceLedgerModel" (430 : Nat) ({ cls := "ResourceLedgerModel$Trees", name := "swap", desc := "(II)V" } : Jvm.MethodName)) ∈ lw_all := lw_g (lw_at lw_m14 207 rfl) rfl
theorem q3596 : (Jvm.Cond.methodLink "ResourceLedgerModel" (665 : Nat) ({ cls := "ResourceLedgerModel", name := "isTooMuch", desc := "()Z" } : Jvm.MethodName)) ∈ lw_all := lw_g (lw_at lw_m14 212 rfl) rfl
theorem q3597 : (Jvm.Cond.privateMethod ({ cls := "ResourceLedgerModel", name := "isTooMuch", desc := "()Z" } : Jvm.MethodName)) ∈ lw_tbl := lw_at lw_m14 213 rfl
theorem q3598 : (Jvm.Cond.instanceMethod ({ cls := "ResourceLedgerModel", name := "isTooMuch", desc := "()Z" } : Jvm.MethodName)) ∈ lw_all := lw_g (lw_at lw_m14 214 rfl) rfl
theorem q3599 : (Jvm.Cond.code ({ cls := "ResourceLedgerModel", name := "isTooMuch", desc := "()Z" } : Jvm.MethodName) prog_27_method_76_code (5 : Nat) (Option.some Jvm.ClassFile.FieldType.boolean)) ∈ lw_all := lw_g (lw_at lw_m14 215 rfl) rfl
theorem q3600 : (Jvm.Cond.methodLink "ResourceLedgerModel" (668 : Nat) ({ cls := "ResourceLedgerModel", name := "settle", desc := "()V" } : Jvm.MethodName)) ∈ lw_all := lw_g (lw_at lw_m14 216 rfl) rfl
theorem q3601 : (Jvm.Cond.privateMethod ({ cls := "ResourceLedgerModel", name := "settle", desc := "()V" } : Jvm.MethodName)) ∈ lw_tbl := lw_at lw_m14 217 rfl
theorem q3602 : (Jvm.Cond.instanceMethod ({ cls := "ResourceLedgerModel", name := "settle", desc := "()V" } : Jvm.MethodName)) ∈ lw_all := lw_g (lw_at lw_m14 218 rfl) rfl
theorem q3603 : (Jvm.Cond.code ({ cls := "ResourceLedgerModel", name := "settle", desc := "()V" } : Jvm.MethodName) prog_27_method_77_code (3 : Nat) (Option.none : Option Jvm.ClassFile.FieldType)) ∈ lw_all := lw_g (lw_at lw_m14 219 rfl) rfl
theorem q3604 : (Jvm.Cond.methodLink "ResourceLedgerModel" (671 : Nat) ({ cls := "ResourceLedgerModel", name := "removeResource", desc := "(I)V" } : Jvm.MethodName)) ∈ lw_all := lw_g (lw_at lw_m14 220 rfl) rfl
theorem q3605 : (Jvm.Cond.privateMethod ({ cls := "ResourceLedgerModel", name := "removeResource", desc := "(I)V" } : Jvm.MethodName)) ∈ lw_tbl := lw_at lw_m14 221 rfl
theorem q3606 : (Jvm.Cond.instanceMethod ({ cls := "ResourceLedgerModel", name := "removeResource", desc := "(I)V" } : Jvm.MethodName)) ∈ lw_all := lw_g (lw_at lw_m14 222 rfl) rfl
theorem q3607 : (Jvm.Cond.code ({ cls := "ResourceLedgerModel", name := "removeResource", desc := "(I)V" } : Jvm.MethodName) prog_27_method_9_code (3 : Nat) (Option.none : Option Jvm.ClassFile.FieldType)) ∈ lw_all := lw_g (lw_at lw_m14 223 rfl) rfl
theorem q3608 : (Jvm.Cond.methodLink "ResourceLedgerModel" (674 : Nat) ({ cls := "ResourceLedgerModel", name := "keep", desc := "(II)V" } : Jvm.MethodName)) ∈ lw_all := lw_g (lw_at lw_m14 224 rfl) rfl
theorem q3609 : (Jvm.Cond.privateMethod ({ cls := "ResourceLedgerModel", name := "keep", desc := "(II)V" } : Jvm.MethodName)) ∈ lw_tbl := lw_at lw_m14 225 rfl
theorem q3610 : (Jvm.Cond.instanceMethod ({ cls := "ResourceLedgerModel", name := "keep", desc := "(II)V" } : Jvm.MethodName)) ∈ lw_all := lw_g (lw_at lw_m14 226 rfl) rfl
theorem q3611 : (Jvm.Cond.code ({ cls := "ResourceLedgerModel", name := "keep", desc := "(II)V" } : Jvm.MethodName) prog_27_method_7_code (3 : Nat) (Option.none : Option Jvm.ClassFile.FieldType)) ∈ lw_all := lw_g (lw_at lw_m14 227 rfl) rfl
theorem q3612 : (Jvm.Cond.methodLink "ResourceLedgerModel" (67 : Nat) ({ cls := "ResourceLedgerModel", name := "keepOne", desc := "(I)V" } : Jvm.MethodName)) ∈ lw_all := lw_g (lw_at lw_m14 228 rfl) rfl
theorem q3613 : (Jvm.Cond.privateMethod ({ cls := "ResourceLedgerModel", name := "keepOne", desc := "(I)V" } : Jvm.MethodName)) ∈ lw_tbl := lw_at lw_m14 229 rfl
theorem q3614 : (Jvm.Cond.instanceMethod ({ cls := "ResourceLedgerModel", name := "keepOne", desc := "(I)V" } : Jvm.MethodName)) ∈ lw_all := lw_g (lw_at lw_m14 230 rfl) rfl
theorem q3615 : (Jvm.Cond.code ({ cls := "ResourceLedgerModel", name := "keepOne", desc := "(I)V" } : Jvm.MethodName) prog_27_method_8_code (4 : Nat) (Option.none : Option Jvm.ClassFile.FieldType)) ∈ lw_all := lw_g (lw_at lw_m14 231 rfl) rfl
theorem q3617 : (Jvm.Cond.instanceMethod ({ cls := "ResourceLedgerModel", name := "told", desc := "(II)I" } : Jvm.MethodName)) ∈ lw_all := lw_g (lw_at lw_m14 233 rfl) rfl
theorem q3618 : (Jvm.Cond.selects "ResourceLedgerModel" ({ cls := "ResourceLedgerModel", name := "told", desc := "(II)I" } : Jvm.MethodName) ({ cls := "ResourceLedgerModel", name := "told", desc := "(II)I" } : Jvm.MethodName)) ∈ lw_all := lw_g (lw_at lw_m14 234 rfl) rfl
theorem q3619 : (Jvm.Cond.code ({ cls := "ResourceLedgerModel", name := "told", desc := "(II)I" } : Jvm.MethodName) prog_27_method_79_code (3 : Nat) (Option.some Jvm.ClassFile.FieldType.int)) ∈ lw_all := lw_g (lw_at lw_m14 235 rfl) rfl
theorem q3620 : (Jvm.Cond.methodLink "ResourceLedgerModel" (677 : Nat) ({ cls := "ResourceLedgerModel", name := "isDone", desc := "(I)Z" } : Jvm.MethodName)) ∈ lw_all := lw_g (lw_at lw_m14 236 rfl) rfl
theorem q3621 : (Jvm.Cond.privateMethod ({ cls := "ResourceLedgerModel", name := "isDone", desc := "(I)Z" } : Jvm.MethodName)) ∈ lw_tbl := lw_at lw_m14 237 rfl
theorem q3622 : (Jvm.Cond.instanceMethod ({ cls := "ResourceLedgerModel", name := "isDone", desc := "(I)Z" } : Jvm.MethodName)) ∈ lw_all := lw_g (lw_at lw_m14 238 rfl) rfl
theorem q3623 : (Jvm.Cond.code ({ cls := "ResourceLedgerModel", name := "isDone", desc := "(I)Z" } : Jvm.MethodName) prog_27_method_78_code (2 : Nat) (Option.some Jvm.ClassFile.FieldType.boolean)) ∈ lw_all := lw_g (lw_at lw_m14 239 rfl) rfl
theorem q3625 : (Jvm.Cond.instanceMethod ({ cls := "ResourceLedgerModel", name := "code", desc := "(I)J" } : Jvm.MethodName)) ∈ lw_all := lw_g (lw_at lw_m15 1 rfl) rfl
theorem q3626 : (Jvm.Cond.selects "ResourceLedgerModel" ({ cls := "ResourceLedgerModel", name := "code", desc := "(I)J" } : Jvm.MethodName) ({ cls := "ResourceLedgerModel", name := "code", desc := "(I)J" } : Jvm.MethodName)) ∈ lw_all := lw_g (lw_at lw_m15 2 rfl) rfl
theorem q3627 : (Jvm.Cond.code ({ cls := "ResourceLedgerModel", name := "code", desc := "(I)J" } : Jvm.MethodName) prog_27_method_80_code (2 : Nat) (Option.some Jvm.ClassFile.FieldType.long)) ∈ lw_all := lw_g (lw_at lw_m15 3 rfl) rfl
theorem q3629 : (Jvm.Cond.instanceMethod ({ cls := "ResourceLedgerModel", name := "result", desc := "(III)J" } : Jvm.MethodName)) ∈ lw_all := lw_g (lw_at lw_m15 5 rfl) rfl
theorem q3630 : (Jvm.Cond.selects "ResourceLedgerModel" ({ cls := "ResourceLedgerModel", name := "result", desc := "(III)J" } : Jvm.MethodName) ({ cls := "ResourceLedgerModel", name := "result", desc := "(III)J" } : Jvm.MethodName)) ∈ lw_all := lw_g (lw_at lw_m15 6 rfl) rfl
theorem q3631 : (Jvm.Cond.code ({ cls := "ResourceLedgerModel", name := "result", desc := "(III)J" } : Jvm.MethodName) prog_27_method_81_code (5 : Nat) (Option.some Jvm.ClassFile.FieldType.long)) ∈ lw_all := lw_g (lw_at lw_m15 7 rfl) rfl
theorem q3633 : (Jvm.Cond.instanceMethod ({ cls := "ResourceLedgerModel", name := "account", desc := "(JI)J" } : Jvm.MethodName)) ∈ lw_all := lw_g (lw_at lw_m15 9 rfl) rfl
theorem q3634 : (Jvm.Cond.selects "ResourceLedgerModel" ({ cls := "ResourceLedgerModel", name := "account", desc := "(JI)J" } : Jvm.MethodName) ({ cls := "ResourceLedgerModel", name := "account", desc := "(JI)J" } : Jvm.MethodName)) ∈ lw_all := lw_g (lw_at lw_m15 10 rfl) rfl
theorem q3635 : (Jvm.Cond.code ({ cls := "ResourceLedgerModel", name := "account", desc := "(JI)J" } : Jvm.MethodName) prog_27_method_82_code (5 : Nat) (Option.some Jvm.ClassFile.FieldType.long)) ∈ lw_all := lw_g (lw_at lw_m15 11 rfl) rfl
theorem q3637 : (Jvm.Cond.instanceMethod ({ cls := "ResourceLedgerModel", name := "coins", desc := "(I)J" } : Jvm.MethodName)) ∈ lw_all := lw_g (lw_at lw_m15 13 rfl) rfl
theorem q3638 : (Jvm.Cond.selects "ResourceLedgerModel" ({ cls := "ResourceLedgerModel", name := "coins", desc := "(I)J" } : Jvm.MethodName) ({ cls := "ResourceLedgerModel", name := "coins", desc := "(I)J" } : Jvm.MethodName)) ∈ lw_all := lw_g (lw_at lw_m15 14 rfl) rfl
theorem q3639 : (Jvm.Cond.code ({ cls := "ResourceLedgerModel", name := "coins", desc := "(I)J" } : Jvm.MethodName) prog_27_method_83_code (5 : Nat) (Option.some Jvm.ClassFile.FieldType.long)) ∈ lw_all := lw_g (lw_at lw_m15 15 rfl) rfl
theorem q3640 : (Jvm.Cond.methodLink "ResourceLedgerModel" (680 : Nat) ({ cls := "ResourceLedgerModel", name := "coinsIn", desc := "(I)J" } : Jvm.MethodName)) ∈ lw_all := lw_g (lw_at lw_m15 16 rfl) rfl
theorem q3641 : (Jvm.Cond.privateMethod ({ cls := "ResourceLedgerModel", name := "coinsIn", desc := "(I)J" } : Jvm.MethodName)) ∈ lw_tbl := lw_at lw_m15 17 rfl
theorem q3642 : (Jvm.Cond.instanceMethod ({ cls := "ResourceLedgerModel", name := "coinsIn", desc := "(I)J" } : Jvm.MethodName)) ∈ lw_all := lw_g (lw_at lw_m15 18 rfl) rfl
theorem q3643 : (Jvm.Cond.code ({ cls := "ResourceLedgerModel", name := "coinsIn", desc := "(I)J" } : Jvm.MethodName) prog_27_method_84_code (6 : Nat) (Option.some Jvm.ClassFile.FieldType.long)) ∈ lw_all := lw_g (lw_at lw_m15 19 rfl) rfl
theorem q3645 : (Jvm.Cond.instanceMethod ({ cls := "ResourceLedgerModel", name := "places", desc := "(I)I" } : Jvm.MethodName)) ∈ lw_all := lw_g (lw_at lw_m15 21 rfl) rfl
theorem q3646 : (Jvm.Cond.selects "ResourceLedgerModel" ({ cls := "ResourceLedgerModel", name := "places", desc := "(I)I" } : Jvm.MethodName) ({ cls := "ResourceLedgerModel", name := "places", desc := "(I)I" } : Jvm.MethodName)) ∈ lw_all := lw_g (lw_at lw_m15 22 rfl) rfl
theorem q3647 : (Jvm.Cond.code ({ cls := "ResourceLedgerModel", name := "places", desc := "(I)I" } : Jvm.MethodName) prog_27_method_85_code (2 : Nat) (Option.some Jvm.ClassFile.FieldType.int)) ∈ lw_all := lw_g (lw_at lw_m15 23 rfl) rfl
theorem q3649 : (Jvm.Cond.instanceMethod ({ cls := "ResourceLedgerModel", name := "resource", desc := "(JII)I" } : Jvm.MethodName)) ∈ lw_all := lw_g (lw_at lw_m15 25 rfl) rfl
theorem q3650 : (Jvm.Cond.selects "ResourceLedgerModel" ({ cls := "ResourceLedgerModel", name := "resource", desc := "(JII)I" } : Jvm.MethodName) ({ cls := "ResourceLedgerModel", name := "resource", desc := "(JII)I" } : Jvm.MethodName)) ∈ lw_all := lw_g (lw_at lw_m15 26 rfl) rfl
theorem q3651 : (Jvm.Cond.code ({ cls := "ResourceLedgerModel", name := "resource", desc := "(JII)I" } : Jvm.MethodName) prog_27_method_86_code (7 : Nat) (Option.some Jvm.ClassFile.FieldType.int)) ∈ lw_all := lw_g (lw_at lw_m15 27 rfl) rfl
theorem q3652 : (Jvm.Cond.methodLink "ResourceLedgerModel" (687 : Nat) ({ cls := "ResourceLedgerModel", name := "addBytes", desc := "(I)V" } : Jvm.MethodName)) ∈ lw_all := lw_g (lw_at lw_m15 28 rfl) rfl
theorem q3653 : (Jvm.Cond.privateMethod ({ cls := "ResourceLedgerModel", name := "addBytes", desc := "(I)V" } : Jvm.MethodName)) ∈ lw_tbl := lw_at lw_m15 29 rfl
theorem q3654 : (Jvm.Cond.instanceMethod ({ cls := "ResourceLedgerModel", name := "addBytes", desc := "(I)V" } : Jvm.MethodName)) ∈ lw_all := lw_g (lw_at lw_m15 30 rfl) rfl
theorem q3655 : (Jvm.Cond.code ({ cls := "ResourceLedgerModel", name := "addBytes", desc := "(I)V" } : Jvm.MethodName) prog_27_method_10_code (2 : Nat) (Option.none : Option Jvm.ClassFile.FieldType)) ∈ lw_all := lw_g (lw_at lw_m15 31 rfl) rfl
theorem q3656 : (Jvm.Cond.methodLink "ResourceLedgerModel" (90 : Nat) ({ cls := "ResourceLedgerModel", name := "addOne", desc := "()V" } : Jvm.MethodName)) ∈ lw_all := lw_g (lw_at lw_m15 32 rfl) rfl
theorem q3657 : (Jvm.Cond.privateMethod ({ cls := "ResourceLedgerModel", name := "addOne", desc := "()V" } : Jvm.MethodName)) ∈ lw_tbl := lw_at lw_m15 33 rfl
theorem q3658 : (Jvm.Cond.instanceMethod ({ cls := "ResourceLedgerModel", name := "addOne", desc := "()V" } : Jvm.MethodName)) ∈ lw_all := lw_g (lw_at lw_m15 34 rfl) rfl
theorem q3659 : (Jvm.Cond.code ({ cls := "ResourceLedgerModel", name := "addOne", desc := "()V" } : Jvm.MethodName) prog_27_method_11_code (3 : Nat) (Option.none : Option Jvm.ClassFile.FieldType)) ∈ lw_all := lw_g (lw_at lw_m15 35 rfl) rfl
theorem q3660 : (Jvm.Cond.methodLink "ResourceLedgerModel" (102 : Nat) ({ cls := "ResourceLedgerModel$Digester", name := "addNumber", desc := "(JI)V" } : Jvm.MethodName)) ∈ lw_all := lw_g (lw_at lw_m15 36 rfl) rfl
theorem q3662 : (Jvm.Cond.instanceMethod ({ cls := "ResourceLedgerModel", name := "byteOf", desc := "(I)I" } : Jvm.MethodName)) ∈ lw_all := lw_g (lw_at lw_m15 38 rfl) rfl
theorem q3663 : (Jvm.Cond.selects "ResourceLedgerModel" ({ cls := "ResourceLedgerModel", name := "byteOf", desc := "(I)I" } : Jvm.MethodName) ({ cls := "ResourceLedgerModel", name := "byteOf", desc := "(I)I" } : Jvm.MethodName)) ∈ lw_all := lw_g (lw_at lw_m15 39 rfl) rfl
theorem q3664 : (Jvm.Cond.code ({ cls := "ResourceLedgerModel", name := "byteOf", desc := "(I)I" } : Jvm.MethodName) prog_27_method_87_code (2 : Nat) (Option.some Jvm.ClassFile.FieldType.int)) ∈ lw_all := lw_g (lw_at lw_m15 40 rfl) rfl
theorem q3666 : (Jvm.Cond.instanceMethod ({ cls := "ResourceLedgerModel", name := "root", desc := "(I)J" } : Jvm.MethodName)) ∈ lw_all := lw_g (lw_at lw_m15 42 rfl) rfl
theorem q3667 : (Jvm.Cond.selects "ResourceLedgerModel" ({ cls := "ResourceLedgerModel", name := "root", desc := "(I)J" } : Jvm.MethodName) ({ cls := "ResourceLedgerModel", name := "root", desc := "(I)J" } : Jvm.MethodName)) ∈ lw_all := lw_g (lw_at lw_m15 43 rfl) rfl
theorem q3668 : (Jvm.Cond.code ({ cls := "ResourceLedgerModel", name := "root", desc := "(I)J" } : Jvm.MethodName) prog_27_method_89_code (4 : Nat) (Option.some Jvm.ClassFile.FieldType.long)) ∈ lw_all := lw_g (lw_at lw_m15 44 rfl) rfl
theorem q3669 : (Jvm.Cond.methodLink "ResourceLedgerModel" (697 : Nat) ({ cls := "ResourceLedgerModel$Roots", name := "begin", desc := "()V" } : Jvm.MethodName)) ∈ lw_all := lw_g (lw_at lw_m15 45 rfl) rfl
theorem q3673 : (Jvm.Cond.methodLink "ResourceLedgerModel" (698 : Nat) ({ cls := "ResourceLedgerModel", name := "keepFour", desc := "([J)V" } : Jvm.MethodName)) ∈ lw_all := lw_g (lw_at lw_m15 49 rfl) rfl
theorem q3674 : (Jvm.Cond.privateMethod ({ cls := "ResourceLedgerModel", name := "keepFour", desc := "([J)V" } : Jvm.MethodName)) ∈ lw_tbl := lw_at lw_m15 50 rfl
theorem q3675 : (Jvm.Cond.instanceMethod ({ cls := "ResourceLedgerModel", name := "keepFour", desc := "([J)V" } : Jvm.MethodName)) ∈ lw_all := lw_g (lw_at lw_m15 51 rfl) rfl
theorem q3676 : (Jvm.Cond.code ({ cls := "ResourceLedgerModel", name := "keepFour", desc := "([J)V" } : Jvm.MethodName) prog_27_method_88_code (3 : Nat) (Option.none : Option Jvm.ClassFile.FieldType)) ∈ lw_all := lw_g (lw_at lw_m15 52 rfl) rfl
theorem q3677 : (Jvm.Cond.methodLink "ResourceLedgerModel" (694 : Nat) ({ cls := "ResourceLedgerModel$Digester", name := "four", desc := "(I)J" } : Jvm.MethodName)) ∈ lw_all := lw_g (lw_at lw_m15 53 rfl) rfl
theorem q3681 : (Jvm.Cond.methodLink "ResourceLedgerModel" (702 : Nat) ({ cls := "ResourceLedgerModel$Roots", name := "put", desc := "([J[JIJI)V" } : Jvm.MethodName)) ∈ lw_all := lw_g (lw_at lw_m15 57 rfl) rfl
theorem q3705 : (Jvm.Cond.methodLink "ResourceLedgerModel" (712 : Nat) ({ cls := "ResourceLedgerModel$Roots", name := "all", desc := "()V" } : Jvm.MethodName)) ∈ lw_all := lw_g (lw_at lw_m15 81 rfl) rfl
theorem q3735 : (Jvm.Cond.methodLink "ResourceLedgerModel" (715 : Nat) ({ cls := "ResourceLedgerModel$Roots", name := "get", desc := "(I)J" } : Jvm.MethodName)) ∈ lw_all := lw_g (lw_at lw_m15 111 rfl) rfl
theorem q3740 : (Jvm.Cond.instanceMethod ({ cls := "ResourceLedgerModel", name := "slips", desc := "()I" } : Jvm.MethodName)) ∈ lw_all := lw_g (lw_at lw_m15 116 rfl) rfl
theorem q3741 : (Jvm.Cond.selects "ResourceLedgerModel" ({ cls := "ResourceLedgerModel", name := "slips", desc := "()I" } : Jvm.MethodName) ({ cls := "ResourceLedgerModel", name := "slips", desc := "()I" } : Jvm.MethodName)) ∈ lw_all := lw_g (lw_at lw_m15 117 rfl) rfl
theorem q3742 : (Jvm.Cond.code ({ cls := "ResourceLedgerModel", name := "slips", desc := "()I" } : Jvm.MethodName) prog_27_method_90_code (1 : Nat) (Option.some Jvm.ClassFile.FieldType.int)) ∈ lw_all := lw_g (lw_at lw_m15 118 rfl) rfl
theorem in_X23 : ∀ w ∈ wsX230, w ∈ lw_all := lw_in wsX230 [2677, 2679, 2681, 2683, 2685, 2687, 2689, 2691, 2693, 2695, 2697, 2699, 2701, 2703, 2705, 2707, 2709, 2711, 2713, 2715, 2717, 2719, 2721, 2723, 2725, 2727, 2729, 2731, 2733, 2735, 2737, 2739, 2741, 2743, 2745, 2747, 2749, 2751, 2753, 2755, 2757, 2759, 2761, 2763, 2765, 2767, 2769, 2771, 2773, 2775, 2777, 2779, 2781, 2783, 2785, 2787, 2789, 2791, 2793, 2795, 2797, 2799, 2801, 2803, 2805, 2807, 2809, 2811, 2813, 2815, 2817, 2819, 2821, 2823, 2825, 2827, 2829, 2831] (by decide +kernel) (by decide +kernel)
end
section
-- ResourceLedgerModel$Trees
set_option maxRecDepth 100000
def RX24 : String := "ResourceLedgerModel$Trees"
def TX24 : u_T := fun k => match k with
  | 0 => ("ResourceLedgerModel$Trees", "kinds", "[B", true)
  | 1 => ("ResourceLedgerModel$Trees", "highs", "[J", true)
  | 2 => ("ResourceLedgerModel$Trees", "lows", "[J", true)
  | 3 => ("ResourceLedgerModel$Trees", "firsts", "[I", true)
  | 4 => ("ResourceLedgerModel$Trees", "nexts", "[I", true)
  | _ => ("ResourceLedgerModel$Trees", "size", "I", false)
def tyX24 : Nat → FieldType := fun k => match k with
  | 0 => .array .byte
  | 1 => .array .long
  | 2 => .array .long
  | 3 => .array .int
  | 4 => .array .int
  | _ => .int
abbrev wsX240 : List Cond := u_ws RX24 TX24 6
theorem nmX24 : ∀ a, a < 6 → ∀ b, b < 6 → a ≠ b → (TX24 a).2.1 ≠ (TX24 b).2.1 := by decide +kernel
theorem tyX24_ok : ∀ k, k < 6 → parseFieldDescriptor (TX24 k).2.2.1 = some (tyX24 k) := by decide +kernel
abbrev cX24_init : ByteArray := prog_31_method_1_code
def yX24_init : MethodName := ⟨RX24, "<init>", "()V"⟩
abbrev cX24_make : ByteArray := prog_31_method_2_code
def yX24_make : MethodName := ⟨RX24, "make", "(IJJ)I"⟩
abbrev cX24_add : ByteArray := prog_31_method_4_code
def yX24_add : MethodName := ⟨RX24, "add", "(II)V"⟩
abbrev cX24_sizeOf : ByteArray := prog_31_method_8_code
def yX24_sizeOf : MethodName := ⟨RX24, "sizeOf", "(I)I"⟩
abbrev cX24_copy : ByteArray := prog_31_method_9_code
def yX24_copy : MethodName := ⟨RX24, "copy", "(I)I"⟩
abbrev cX24_become : ByteArray := prog_31_method_11_code
def yX24_become : MethodName := ⟨RX24, "become", "(II)V"⟩
abbrev cX24_part : ByteArray := prog_31_method_6_code
def yX24_part : MethodName := ⟨RX24, "part", "(IJ)I"⟩
abbrev cX24_isAlike : ByteArray := prog_31_method_10_code
def yX24_isAlike : MethodName := ⟨RX24, "isAlike", "(II)Z"⟩
abbrev cX24_count : ByteArray := prog_31_method_5_code
def yX24_count : MethodName := ⟨RX24, "count", "(I)I"⟩
abbrev cX24_takeLast : ByteArray := prog_31_method_7_code
def yX24_takeLast : MethodName := ⟨RX24, "takeLast", "(I)I"⟩
abbrev cX24_swap : ByteArray := prog_31_method_12_code
def yX24_swap : MethodName := ⟨RX24, "swap", "(II)V"⟩
theorem q296 : (Jvm.Cond.initialized "ResourceLedgerModel$Trees") ∈ lw_all := lw_g (lw_at lw_m1 32 rfl) rfl
theorem q2344 : (Jvm.Cond.instantiable "ResourceLedgerModel$Trees" (6 : Nat)) ∈ lw_all := lw_g (lw_at lw_m9 160 rfl) rfl
theorem q2346 : (Jvm.Cond.instanceMethod ({ cls := "ResourceLedgerModel$Trees", name := "<init>", desc := "()V" } : Jvm.MethodName)) ∈ lw_all := lw_g (lw_at lw_m9 162 rfl) rfl
theorem q2347 : (Jvm.Cond.code ({ cls := "ResourceLedgerModel$Trees", name := "<init>", desc := "()V" } : Jvm.MethodName) prog_31_method_1_code (1 : Nat) (Option.none : Option Jvm.ClassFile.FieldType)) ∈ lw_all := lw_g (lw_at lw_m9 163 rfl) rfl
theorem q2348 : (Jvm.Cond.methodLink "ResourceLedgerModel$Trees" (1 : Nat) ({ cls := "java/lang/Object", name := "<init>", desc := "()V" } : Jvm.MethodName)) ∈ lw_all := lw_g (lw_at lw_m9 164 rfl) rfl
theorem q2349 : (Jvm.Cond.fieldLink "ResourceLedgerModel$Trees" (7 : Nat) "ResourceLedgerModel$Trees" "kinds" "[B") ∈ lw_all := lw_g (lw_at lw_m9 165 rfl) rfl
theorem q2351 : (Jvm.Cond.fieldLink "ResourceLedgerModel$Trees" (13 : Nat) "ResourceLedgerModel$Trees" "highs" "[J") ∈ lw_all := lw_g (lw_at lw_m9 167 rfl) rfl
theorem q2353 : (Jvm.Cond.fieldLink "ResourceLedgerModel$Trees" (17 : Nat) "ResourceLedgerModel$Trees" "lows" "[J") ∈ lw_all := lw_g (lw_at lw_m9 169 rfl) rfl
theorem q2355 : (Jvm.Cond.fieldLink "ResourceLedgerModel$Trees" (20 : Nat) "ResourceLedgerModel$Trees" "firsts" "[I") ∈ lw_all := lw_g (lw_at lw_m9 171 rfl) rfl
theorem q2357 : (Jvm.Cond.fieldLink "ResourceLedgerModel$Trees" (24 : Nat) "ResourceLedgerModel$Trees" "nexts" "[I") ∈ lw_all := lw_g (lw_at lw_m9 173 rfl) rfl
theorem q2359 : (Jvm.Cond.fieldLink "ResourceLedgerModel$Trees" (27 : Nat) "ResourceLedgerModel$Trees" "size" "I") ∈ lw_all := lw_g (lw_at lw_m9 175 rfl) rfl
theorem q2361 : (Jvm.Cond.laysFinal "ResourceLedgerModel$Trees" "ResourceLedgerModel$Trees" "kinds" "[B") ∈ lw_all := lw_g (lw_at lw_m9 177 rfl) rfl
theorem q2362 : (Jvm.Cond.soleField "ResourceLedgerModel$Trees" "kinds") ∈ lw_all := lw_g (lw_at lw_m9 178 rfl) rfl
theorem q2363 : (Jvm.Cond.laysFinal "ResourceLedgerModel$Trees" "ResourceLedgerModel$Trees" "highs" "[J") ∈ lw_all := lw_g (lw_at lw_m9 179 rfl) rfl
theorem q2364 : (Jvm.Cond.soleField "ResourceLedgerModel$Trees" "highs") ∈ lw_all := lw_g (lw_at lw_m9 180 rfl) rfl
theorem q2365 : (Jvm.Cond.laysFinal "ResourceLedgerModel$Trees" "ResourceLedgerModel$Trees" "lows" "[J") ∈ lw_all := lw_g (lw_at lw_m9 181 rfl) rfl
theorem q2366 : (Jvm.Cond.soleField "ResourceLedgerModel$Trees" "lows") ∈ lw_all := lw_g (lw_at lw_m9 182 rfl) rfl
theorem q2367 : (Jvm.Cond.laysFinal "ResourceLedgerModel$Trees" "ResourceLedgerModel$Trees" "firsts" "[I") ∈ lw_all := lw_g (lw_at lw_m9 183 rfl) rfl
theorem q2368 : (Jvm.Cond.soleField "ResourceLedgerModel$Trees" "firsts") ∈ lw_all := lw_g (lw_at lw_m9 184 rfl) rfl
theorem q2369 : (Jvm.Cond.laysFinal "ResourceLedgerModel$Trees" "ResourceLedgerModel$Trees" "nexts" "[I") ∈ lw_all := lw_g (lw_at lw_m9 185 rfl) rfl
theorem q2370 : (Jvm.Cond.soleField "ResourceLedgerModel$Trees" "nexts") ∈ lw_all := lw_g (lw_at lw_m9 186 rfl) rfl
theorem q2371 : (Jvm.Cond.lays "ResourceLedgerModel$Trees" "ResourceLedgerModel$Trees" "size" "I") ∈ lw_all := lw_g (lw_at lw_m9 187 rfl) rfl
theorem q2372 : (Jvm.Cond.soleField "ResourceLedgerModel$Trees" "size") ∈ lw_all := lw_g (lw_at lw_m9 188 rfl) rfl
theorem q2373 : (Jvm.Cond.superclass "ResourceLedgerModel$Trees" "java/lang/Object") ∈ lw_all := lw_g (lw_at lw_m9 189 rfl) rfl
theorem q3348 : (Jvm.Cond.instanceMethod ({ cls := "ResourceLedgerModel$Trees", name := "make", desc := "(IJJ)I" } : Jvm.MethodName)) ∈ lw_all := lw_g (lw_at lw_m13 204 rfl) rfl
theorem q3349 : (Jvm.Cond.selects "ResourceLedgerModel$Trees" ({ cls := "ResourceLedgerModel$Trees", name := "make", desc := "(IJJ)I" } : Jvm.MethodName) ({ cls := "ResourceLedgerModel$Trees", name := "make", desc := "(IJJ)I" } : Jvm.MethodName)) ∈ lw_all := lw_g (lw_at lw_m13 205 rfl) rfl
theorem q3350 : (Jvm.Cond.code ({ cls := "ResourceLedgerModel$Trees", name := "make", desc := "(IJJ)I" } : Jvm.MethodName) prog_31_method_2_code (7 : Nat) (Option.some Jvm.ClassFile.FieldType.int)) ∈ lw_all := lw_g (lw_at lw_m13 206 rfl) rfl
theorem q3352 : (Jvm.Cond.instanceMethod ({ cls := "ResourceLedgerModel$Trees", name := "add", desc := "(II)V" } : Jvm.MethodName)) ∈ lw_all := lw_g (lw_at lw_m13 208 rfl) rfl
theorem q3353 : (Jvm.Cond.selects "ResourceLedgerModel$Trees" ({ cls := "ResourceLedgerModel$Trees", name := "add", desc := "(II)V" } : Jvm.MethodName) ({ cls := "ResourceLedgerModel$Trees", name := "add", desc := "(II)V" } : Jvm.MethodName)) ∈ lw_all := lw_g (lw_at lw_m13 209 rfl) rfl
theorem q3354 : (Jvm.Cond.code ({ cls := "ResourceLedgerModel$Trees", name := "add", desc := "(II)V" } : Jvm.MethodName) prog_31_method_4_code (4 : Nat) (Option.none : Option Jvm.ClassFile.FieldType)) ∈ lw_all := lw_g (lw_at lw_m13 210 rfl) rfl
theorem q3407 : (Jvm.Cond.instanceMethod ({ cls := "ResourceLedgerModel$Trees", name := "sizeOf", desc := "(I)I" } : Jvm.MethodName)) ∈ lw_all := lw_g (lw_at lw_m14 23 rfl) rfl
theorem q3408 : (Jvm.Cond.selects "ResourceLedgerModel$Trees" ({ cls := "ResourceLedgerModel$Trees", name := "sizeOf", desc := "(I)I" } : Jvm.MethodName) ({ cls := "ResourceLedgerModel$Trees", name := "sizeOf", desc := "(I)I" } : Jvm.MethodName)) ∈ lw_all := lw_g (lw_at lw_m14 24 rfl) rfl
theorem q3409 : (Jvm.Cond.code ({ cls := "ResourceLedgerModel$Trees", name := "sizeOf", desc := "(I)I" } : Jvm.MethodName) prog_31_method_8_code (4 : Nat) (Option.some Jvm.ClassFile.FieldType.int)) ∈ lw_all := lw_g (lw_at lw_m14 25 rfl) rfl
theorem q3410 : (Jvm.Cond.methodLink "ResourceLedgerModel$Trees" (31 : Nat) ({ cls := "ResourceLedgerModel$Trees", name := "sizeOf", desc := "(I)I" } : Jvm.MethodName)) ∈ lw_all := lw_g (lw_at lw_m14 26 rfl) rfl
theorem q3412 : (Jvm.Cond.instanceMethod ({ cls := "ResourceLedgerModel$Trees", name := "copy", desc := "(I)I" } : Jvm.MethodName)) ∈ lw_all := lw_g (lw_at lw_m14 28 rfl) rfl
theorem q3413 : (Jvm.Cond.selects "ResourceLedgerModel$Trees" ({ cls := "ResourceLedgerModel$Trees", name := "copy", desc := "(I)I" } : Jvm.MethodName) ({ cls := "ResourceLedgerModel$Trees", name := "copy", desc := "(I)I" } : Jvm.MethodName)) ∈ lw_all := lw_g (lw_at lw_m14 29 rfl) rfl
theorem q3414 : (Jvm.Cond.code ({ cls := "ResourceLedgerModel$Trees", name := "copy", desc := "(I)I" } : Jvm.MethodName) prog_31_method_9_code (4 : Nat) (Option.some Jvm.ClassFile.FieldType.int)) ∈ lw_all := lw_g (lw_at lw_m14 30 rfl) rfl
theorem q3415 : (Jvm.Cond.methodLink "ResourceLedgerModel$Trees" (35 : Nat) ({ cls := "ResourceLedgerModel$Trees", name := "make", desc := "(IJJ)I" } : Jvm.MethodName)) ∈ lw_all := lw_g (lw_at lw_m14 31 rfl) rfl
theorem q3416 : (Jvm.Cond.methodLink "ResourceLedgerModel$Trees" (39 : Nat) ({ cls := "ResourceLedgerModel$Trees", name := "copy", desc := "(I)I" } : Jvm.MethodName)) ∈ lw_all := lw_g (lw_at lw_m14 32 rfl) rfl
theorem q3417 : (Jvm.Cond.methodLink "ResourceLedgerModel$Trees" (42 : Nat) ({ cls := "ResourceLedgerModel$Trees", name := "add", desc := "(II)V" } : Jvm.MethodName)) ∈ lw_all := lw_g (lw_at lw_m14 33 rfl) rfl
theorem q3423 : (Jvm.Cond.instanceMethod ({ cls := "ResourceLedgerModel$Trees", name := "become", desc := "(II)V" } : Jvm.MethodName)) ∈ lw_all := lw_g (lw_at lw_m14 39 rfl) rfl
theorem q3424 : (Jvm.Cond.selects "ResourceLedgerModel$Trees" ({ cls := "ResourceLedgerModel$Trees", name := "become", desc := "(II)V" } : Jvm.MethodName) ({ cls := "ResourceLedgerModel$Trees", name := "become", desc := "(II)V" } : Jvm.MethodName)) ∈ lw_all := lw_g (lw_at lw_m14 40 rfl) rfl
theorem q3425 : (Jvm.Cond.code ({ cls := "ResourceLedgerModel$Trees", name := "become", desc := "(II)V" } : Jvm.MethodName) prog_31_method_11_code (3 : Nat) (Option.none : Option Jvm.ClassFile.FieldType)) ∈ lw_all := lw_g (lw_at lw_m14 41 rfl) rfl
theorem q3427 : (Jvm.Cond.instanceMethod ({ cls := "ResourceLedgerModel$Trees", name := "part", desc := "(IJ)I" } : Jvm.MethodName)) ∈ lw_all := lw_g (lw_at lw_m14 43 rfl) rfl
theorem q3428 : (Jvm.Cond.selects "ResourceLedgerModel$Trees" ({ cls := "ResourceLedgerModel$Trees", name := "part", desc := "(IJ)I" } : Jvm.MethodName) ({ cls := "ResourceLedgerModel$Trees", name := "part", desc := "(IJ)I" } : Jvm.MethodName)) ∈ lw_all := lw_g (lw_at lw_m14 44 rfl) rfl
theorem q3429 : (Jvm.Cond.code ({ cls := "ResourceLedgerModel$Trees", name := "part", desc := "(IJ)I" } : Jvm.MethodName) prog_31_method_6_code (7 : Nat) (Option.some Jvm.ClassFile.FieldType.int)) ∈ lw_all := lw_g (lw_at lw_m14 45 rfl) rfl
theorem q3519 : (Jvm.Cond.instanceMethod ({ cls := "ResourceLedgerModel$Trees", name := "isAlike", desc := "(II)Z" } : Jvm.MethodName)) ∈ lw_all := lw_g (lw_at lw_m14 135 rfl) rfl
theorem q3520 : (Jvm.Cond.selects "ResourceLedgerModel$Trees" ({ cls := "ResourceLedgerModel$Trees", name := "isAlike", desc := "(II)Z" } : Jvm.MethodName) ({ cls := "ResourceLedgerModel$Trees", name := "isAlike", desc := "(II)Z" } : Jvm.MethodName)) ∈ lw_all := lw_g (lw_at lw_m14 136 rfl) rfl
theorem q3521 : (Jvm.Cond.code ({ cls := "ResourceLedgerModel$Trees", name := "isAlike", desc := "(II)Z" } : Jvm.MethodName) prog_31_method_10_code (5 : Nat) (Option.some Jvm.ClassFile.FieldType.boolean)) ∈ lw_all := lw_g (lw_at lw_m14 137 rfl) rfl
theorem q3522 : (Jvm.Cond.methodLink "ResourceLedgerModel$Trees" (46 : Nat) ({ cls := "ResourceLedgerModel$Trees", name := "isAlike", desc := "(II)Z" } : Jvm.MethodName)) ∈ lw_all := lw_g (lw_at lw_m14 138 rfl) rfl
theorem q3542 : (Jvm.Cond.instanceMethod ({ cls := "ResourceLedgerModel$Trees", name := "count", desc := "(I)I" } : Jvm.MethodName)) ∈ lw_all := lw_g (lw_at lw_m14 158 rfl) rfl
theorem q3543 : (Jvm.Cond.selects "ResourceLedgerModel$Trees" ({ cls := "ResourceLedgerModel$Trees", name := "count", desc := "(I)I" } : Jvm.MethodName) ({ cls := "ResourceLedgerModel$Trees", name := "count", desc := "(I)I" } : Jvm.MethodName)) ∈ lw_all := lw_g (lw_at lw_m14 159 rfl) rfl
theorem q3544 : (Jvm.Cond.code ({ cls := "ResourceLedgerModel$Trees", name := "count", desc := "(I)I" } : Jvm.MethodName) prog_31_method_5_code (4 : Nat) (Option.some Jvm.ClassFile.FieldType.int)) ∈ lw_all := lw_g (lw_at lw_m14 160 rfl) rfl
theorem q3588 : (Jvm.Cond.instanceMethod ({ cls := "ResourceLedgerModel$Trees", name := "takeLast", desc := "(I)I" } : Jvm.MethodName)) ∈ lw_all := lw_g (lw_at lw_m14 204 rfl) rfl
theorem q3589 : (Jvm.Cond.selects "ResourceLedgerModel$Trees" ({ cls := "ResourceLedgerModel$Trees", name := "takeLast", desc := "(I)I" } : Jvm.MethodName) ({ cls := "ResourceLedgerModel$Trees", name := "takeLast", desc := "(I)I" } : Jvm.MethodName)) ∈ lw_all := lw_g (lw_at lw_m14 205 rfl) rfl
theorem q3590 : (Jvm.Cond.code ({ cls := "ResourceLedgerModel$Trees", name := "takeLast", desc := "(I)I" } : Jvm.MethodName) prog_31_method_7_code (4 : Nat) (Option.some Jvm.ClassFile.FieldType.int)) ∈ lw_all := lw_g (lw_at lw_m14 206 rfl) rfl
theorem q3592 : (Jvm.Cond.instanceMethod ({ cls := "ResourceLedgerModel$Trees", name := "swap", desc := "(II)V" } : Jvm.MethodName)) ∈ lw_all := lw_g (lw_at lw_m14 208 rfl) rfl
theorem q3593 : (Jvm.Cond.selects "ResourceLedgerModel$Trees" ({ cls := "ResourceLedgerModel$Trees", name := "swap", desc := "(II)V" } : Jvm.MethodName) ({ cls := "ResourceLedgerModel$Trees", name := "swap", desc := "(II)V" } : Jvm.MethodName)) ∈ lw_all := lw_g (lw_at lw_m14 209 rfl) rfl
theorem q3594 : (Jvm.Cond.code ({ cls := "ResourceLedgerModel$Trees", name := "swap", desc := "(II)V" } : Jvm.MethodName) prog_31_method_12_code (9 : Nat) (Option.none : Option Jvm.ClassFile.FieldType)) ∈ lw_all := lw_g (lw_at lw_m14 210 rfl) rfl
theorem q3595 : (Jvm.Cond.methodLink "ResourceLedgerModel$Trees" (50 : Nat) ({ cls := "ResourceLedgerModel$Trees", name := "become", desc := "(II)V" } : Jvm.MethodName)) ∈ lw_all := lw_g (lw_at lw_m14 211 rfl) rfl
theorem in_X24 : ∀ w ∈ wsX240, w ∈ lw_all := lw_in wsX240 [2361, 2363, 2365, 2367, 2369, 2371] (by decide +kernel) (by decide +kernel)
end
section
-- ResourceLedgerModel$Looker
set_option maxRecDepth 100000
def RX25 : String := "ResourceLedgerModel$Looker"
def TX25 : u_T := fun k => match k with
  | 0 => ("ResourceLedgerModel$Looker", "unit", "LResourceLedgerModel$Unit;", false)
  | 1 => ("ResourceLedgerModel$Looker", "now", "I", false)
  | 2 => ("ResourceLedgerModel$Looker", "locals", "I", false)
  | 3 => ("ResourceLedgerModel$Looker", "localTypes", "[J", true)
  | 4 => ("ResourceLedgerModel$Looker", "many", "I", false)
  | 5 => ("ResourceLedgerModel$Looker", "found", "I", false)
  | 6 => ("ResourceLedgerModel$Looker", "came", "[Z", true)
  | 7 => ("ResourceLedgerModel$Looker", "led", "[Z", true)
  | 8 => ("ResourceLedgerModel$Looker", "thereAt", "[Z", true)
  | 9 => ("ResourceLedgerModel$Looker", "originsAt", "[J", true)
  | 10 => ("ResourceLedgerModel$Looker", "insideAt", "[Z", true)
  | 11 => ("ResourceLedgerModel$Looker", "types", "[J", true)
  | 12 => ("ResourceLedgerModel$Looker", "origins", "[J", true)
  | 13 => ("ResourceLedgerModel$Looker", "insides", "[Z", true)
  | 14 => ("ResourceLedgerModel$Looker", "height", "I", false)
  | 15 => ("ResourceLedgerModel$Looker", "there", "[Z", true)
  | 16 => ("ResourceLedgerModel$Looker", "points", "[J", true)
  | 17 => ("ResourceLedgerModel$Looker", "within", "[Z", true)
  | 18 => ("ResourceLedgerModel$Looker", "fault", "I", false)
  | 19 => ("ResourceLedgerModel$Looker", "taken", "J", false)
  | 20 => ("ResourceLedgerModel$Looker", "takenOrigins", "J", false)
  | _ => ("ResourceLedgerModel$Looker", "takenInside", "Z", false)
def tyX25 : Nat → FieldType := fun k => match k with
  | 0 => .object "ResourceLedgerModel$Unit"
  | 1 => .int
  | 2 => .int
  | 3 => .array .long
  | 4 => .int
  | 5 => .int
  | 6 => .array .boolean
  | 7 => .array .boolean
  | 8 => .array .boolean
  | 9 => .array .long
  | 10 => .array .boolean
  | 11 => .array .long
  | 12 => .array .long
  | 13 => .array .boolean
  | 14 => .int
  | 15 => .array .boolean
  | 16 => .array .long
  | 17 => .array .boolean
  | 18 => .int
  | 19 => .long
  | 20 => .long
  | _ => .boolean
abbrev wsX250 : List Cond := u_ws RX25 TX25 22
set_option maxRecDepth 100000 in
theorem nmX25 : ∀ a, a < 22 → ∀ b, b < 22 → a ≠ b → (TX25 a).2.1 ≠ (TX25 b).2.1 := by decide +kernel
set_option maxRecDepth 100000 in
theorem tyX25_ok : ∀ k, k < 22 → parseFieldDescriptor (TX25 k).2.2.1 = some (tyX25 k) := by decide +kernel
abbrev cX25_init : ByteArray := prog_29_method_1_code
def yX25_init : MethodName := ⟨RX25, "<init>", "()V"⟩
abbrev cX25_bears : ByteArray := prog_29_method_13_code
def yX25_bears : MethodName := ⟨RX25, "bears", "(LResourceLedgerModel$Unit;I)Z"⟩
abbrev cX25_abilitiesFor : ByteArray := prog_29_method_11_code
def yX25_abilitiesFor : MethodName := ⟨RX25, "abilitiesFor", "(J)I"⟩
abbrev cX25_isReference : ByteArray := prog_29_method_6_code
def yX25_isReference : MethodName := ⟨RX25, "isReference", "(J)Z"⟩
abbrev cX25_bytesOf : ByteArray := prog_29_method_4_code
def yX25_bytesOf : MethodName := ⟨RX25, "bytesOf", "(J)I"⟩
abbrev cX25_byteOf : ByteArray := prog_29_method_5_code
def yX25_byteOf : MethodName := ⟨RX25, "byteOf", "(JI)I"⟩
abbrev cX25_check : ByteArray := prog_29_method_37_code
def yX25_check : MethodName := ⟨RX25, "check", "(LResourceLedgerModel$Unit;I)I"⟩
abbrev cX25_begin : ByteArray := prog_29_method_35_code
def yX25_begin : MethodName := ⟨RX25, "begin", "()V"⟩
abbrev cX25_look : ByteArray := prog_29_method_36_code
def yX25_look : MethodName := ⟨RX25, "look", "(I)V"⟩
abbrev cX25_need : ByteArray := prog_29_method_3_code
def yX25_need : MethodName := ⟨RX25, "need", "(ZI)V"⟩
abbrev cX25_fail : ByteArray := prog_29_method_2_code
def yX25_fail : MethodName := ⟨RX25, "fail", "(I)V"⟩
abbrev cX25_operate : ByteArray := prog_29_method_30_code
def yX25_operate : MethodName := ⟨RX25, "operate", "(III)V"⟩
abbrev cX25_take : ByteArray := prog_29_method_16_code
def yX25_take : MethodName := ⟨RX25, "take", "()V"⟩
abbrev cX25_has : ByteArray := prog_29_method_12_code
def yX25_has : MethodName := ⟨RX25, "has", "(JI)Z"⟩
abbrev cX25_giveBack : ByteArray := prog_29_method_29_code
def yX25_giveBack : MethodName := ⟨RX25, "giveBack", "()V"⟩
abbrev cX25_take_2 : ByteArray := prog_29_method_17_code
def yX25_take_2 : MethodName := ⟨RX25, "take", "(J)V"⟩
abbrev cX25_give : ByteArray := prog_29_method_15_code
def yX25_give : MethodName := ⟨RX25, "give", "(J)V"⟩
abbrev cX25_push : ByteArray := prog_29_method_14_code
def yX25_push : MethodName := ⟨RX25, "push", "(JJZ)V"⟩
abbrev cX25_onLocal : ByteArray := prog_29_method_23_code
def yX25_onLocal : MethodName := ⟨RX25, "onLocal", "(II)V"⟩
abbrev cX25_isPointed : ByteArray := prog_29_method_21_code
def yX25_isPointed : MethodName := ⟨RX25, "isPointed", "(IZ)Z"⟩
abbrev cX25_writes : ByteArray := prog_29_method_7_code
def yX25_writes : MethodName := ⟨RX25, "writes", "(J)Z"⟩
abbrev cX25_before : ByteArray := prog_29_method_9_code
def yX25_before : MethodName := ⟨RX25, "before", "(IJ)J"⟩
abbrev cX25_onReference : ByteArray := prog_29_method_24_code
def yX25_onReference : MethodName := ⟨RX25, "onReference", "(III)V"⟩
abbrev cX25_structureType : ByteArray := prog_29_method_10_code
def yX25_structureType : MethodName := ⟨RX25, "structureType", "(I)J"⟩
abbrev cX25_takeReference : ByteArray := prog_29_method_18_code
def yX25_takeReference : MethodName := ⟨RX25, "takeReference", "(JZ)V"⟩
abbrev cX25_pointed : ByteArray := prog_29_method_8_code
def yX25_pointed : MethodName := ⟨RX25, "pointed", "(J)J"⟩
abbrev cX25_isSole : ByteArray := prog_29_method_22_code
def yX25_isSole : MethodName := ⟨RX25, "isSole", "(J)Z"⟩
abbrev cX25_pack : ByteArray := prog_29_method_31_code
def yX25_pack : MethodName := ⟨RX25, "pack", "(ZI)V"⟩
abbrev cX25_call : ByteArray := prog_29_method_25_code
def yX25_call : MethodName := ⟨RX25, "call", "(I)V"⟩
abbrev cX25_onNumbers : ByteArray := prog_29_method_26_code
def yX25_onNumbers : MethodName := ⟨RX25, "onNumbers", "(I)V"⟩
abbrev cX25_takeNumbers : ByteArray := prog_29_method_20_code
def yX25_takeNumbers : MethodName := ⟨RX25, "takeNumbers", "(Z)V"⟩
abbrev cX25_isNumber : ByteArray := prog_29_method_19_code
def yX25_isNumber : MethodName := ⟨RX25, "isNumber", "(J)Z"⟩
abbrev cX25_onResource : ByteArray := prog_29_method_27_code
def yX25_onResource : MethodName := ⟨RX25, "onResource", "(II)V"⟩
abbrev cX25_onVector : ByteArray := prog_29_method_28_code
def yX25_onVector : MethodName := ⟨RX25, "onVector", "(III)V"⟩
abbrev cX25_come : ByteArray := prog_29_method_32_code
def yX25_come : MethodName := ⟨RX25, "come", "(II)V"⟩
abbrev cX25_meet : ByteArray := prog_29_method_33_code
def yX25_meet : MethodName := ⟨RX25, "meet", "(II)V"⟩
abbrev cX25_back : ByteArray := prog_29_method_34_code
def yX25_back : MethodName := ⟨RX25, "back", "(II)V"⟩
theorem q297 : (Jvm.Cond.initialized "ResourceLedgerModel$Looker") ∈ lw_all := lw_g (lw_at lw_m1 33 rfl) rfl
theorem q2375 : (Jvm.Cond.instantiable "ResourceLedgerModel$Looker" (22 : Nat)) ∈ lw_all := lw_g (lw_at lw_m9 191 rfl) rfl
theorem q2377 : (Jvm.Cond.instanceMethod ({ cls := "ResourceLedgerModel$Looker", name := "<init>", desc := "()V" } : Jvm.MethodName)) ∈ lw_all := lw_g (lw_at lw_m9 193 rfl) rfl
theorem q2378 : (Jvm.Cond.code ({ cls := "ResourceLedgerModel$Looker", name := "<init>", desc := "()V" } : Jvm.MethodName) prog_29_method_1_code (1 : Nat) (Option.none : Option Jvm.ClassFile.FieldType)) ∈ lw_all := lw_g (lw_at lw_m9 194 rfl) rfl
theorem q2379 : (Jvm.Cond.methodLink "ResourceLedgerModel$Looker" (1 : Nat) ({ cls := "java/lang/Object", name := "<init>", desc := "()V" } : Jvm.MethodName)) ∈ lw_all := lw_g (lw_at lw_m9 195 rfl) rfl
theorem q2380 : (Jvm.Cond.constant "ResourceLedgerModel$Looker" (20 : Nat) (41000 : Int32)) ∈ lw_all := lw_g (lw_at lw_m9 196 rfl) rfl
theorem q2381 : (Jvm.Cond.fieldLink "ResourceLedgerModel$Looker" (72 : Nat) "ResourceLedgerModel$Looker" "unit" "LResourceLedgerModel$Unit;") ∈ lw_all := lw_g (lw_at lw_m9 197 rfl) rfl
theorem q2382 : (Jvm.Cond.fieldLink "ResourceLedgerModel$Looker" (176 : Nat) "ResourceLedgerModel$Looker" "now" "I") ∈ lw_all := lw_g (lw_at lw_m9 198 rfl) rfl
theorem q2383 : (Jvm.Cond.fieldLink "ResourceLedgerModel$Looker" (136 : Nat) "ResourceLedgerModel$Looker" "locals" "I") ∈ lw_all := lw_g (lw_at lw_m9 199 rfl) rfl
theorem q2384 : (Jvm.Cond.fieldLink "ResourceLedgerModel$Looker" (7 : Nat) "ResourceLedgerModel$Looker" "localTypes" "[J") ∈ lw_all := lw_g (lw_at lw_m9 200 rfl) rfl
theorem q2385 : (Jvm.Cond.fieldLink "ResourceLedgerModel$Looker" (231 : Nat) "ResourceLedgerModel$Looker" "many" "I") ∈ lw_all := lw_g (lw_at lw_m9 201 rfl) rfl
theorem q2387 : (Jvm.Cond.fieldLink "ResourceLedgerModel$Looker" (251 : Nat) "ResourceLedgerModel$Looker" "found" "I") ∈ lw_all := lw_g (lw_at lw_m9 203 rfl) rfl
theorem q2388 : (Jvm.Cond.fieldLink "ResourceLedgerModel$Looker" (13 : Nat) "ResourceLedgerModel$Looker" "came" "[Z") ∈ lw_all := lw_g (lw_at lw_m9 204 rfl) rfl
theorem q2389 : (Jvm.Cond.fieldLink "ResourceLedgerModel$Looker" (17 : Nat) "ResourceLedgerModel$Looker" "led" "[Z") ∈ lw_all := lw_g (lw_at lw_m9 205 rfl) rfl
theorem q2390 : (Jvm.Cond.fieldLink "ResourceLedgerModel$Looker" (21 : Nat) "ResourceLedgerModel$Looker" "thereAt" "[Z") ∈ lw_all := lw_g (lw_at lw_m9 206 rfl) rfl
theorem q2391 : (Jvm.Cond.fieldLink "ResourceLedgerModel$Looker" (24 : Nat) "ResourceLedgerModel$Looker" "originsAt" "[J") ∈ lw_all := lw_g (lw_at lw_m9 207 rfl) rfl
theorem q2392 : (Jvm.Cond.fieldLink "ResourceLedgerModel$Looker" (27 : Nat) "ResourceLedgerModel$Looker" "insideAt" "[Z") ∈ lw_all := lw_g (lw_at lw_m9 208 rfl) rfl
theorem q2393 : (Jvm.Cond.fieldLink "ResourceLedgerModel$Looker" (30 : Nat) "ResourceLedgerModel$Looker" "types" "[J") ∈ lw_all := lw_g (lw_at lw_m9 209 rfl) rfl
theorem q2394 : (Jvm.Cond.fieldLink "ResourceLedgerModel$Looker" (33 : Nat) "ResourceLedgerModel$Looker" "origins" "[J") ∈ lw_all := lw_g (lw_at lw_m9 210 rfl) rfl
theorem q2395 : (Jvm.Cond.fieldLink "ResourceLedgerModel$Looker" (36 : Nat) "ResourceLedgerModel$Looker" "insides" "[Z") ∈ lw_all := lw_g (lw_at lw_m9 211 rfl) rfl
theorem q2396 : (Jvm.Cond.fieldLink "ResourceLedgerModel$Looker" (92 : Nat) "ResourceLedgerModel$Looker" "height" "I") ∈ lw_all := lw_g (lw_at lw_m9 212 rfl) rfl
theorem q2397 : (Jvm.Cond.fieldLink "ResourceLedgerModel$Looker" (39 : Nat) "ResourceLedgerModel$Looker" "there" "[Z") ∈ lw_all := lw_g (lw_at lw_m9 213 rfl) rfl
theorem q2398 : (Jvm.Cond.fieldLink "ResourceLedgerModel$Looker" (42 : Nat) "ResourceLedgerModel$Looker" "points" "[J") ∈ lw_all := lw_g (lw_at lw_m9 214 rfl) rfl
theorem q2399 : (Jvm.Cond.fieldLink "ResourceLedgerModel$Looker" (45 : Nat) "ResourceLedgerModel$Looker" "within" "[Z") ∈ lw_all := lw_g (lw_at lw_m9 215 rfl) rfl
theorem q2400 : (Jvm.Cond.fieldLink "ResourceLedgerModel$Looker" (48 : Nat) "ResourceLedgerModel$Looker" "fault" "I") ∈ lw_all := lw_g (lw_at lw_m9 216 rfl) rfl
theorem q2401 : (Jvm.Cond.fieldLink "ResourceLedgerModel$Looker" (99 : Nat) "ResourceLedgerModel$Looker" "taken" "J") ∈ lw_all := lw_g (lw_at lw_m9 217 rfl) rfl
theorem q2402 : (Jvm.Cond.fieldLink "ResourceLedgerModel$Looker" (103 : Nat) "ResourceLedgerModel$Looker" "takenOrigins" "J") ∈ lw_all := lw_g (lw_at lw_m9 218 rfl) rfl
theorem q2403 : (Jvm.Cond.fieldLink "ResourceLedgerModel$Looker" (106 : Nat) "ResourceLedgerModel$Looker" "takenInside" "Z") ∈ lw_all := lw_g (lw_at lw_m9 219 rfl) rfl
theorem q2404 : (Jvm.Cond.lays "ResourceLedgerModel$Looker" "ResourceLedgerModel$Looker" "unit" "LResourceLedgerModel$Unit;") ∈ lw_all := lw_g (lw_at lw_m9 220 rfl) rfl
theorem q2405 : (Jvm.Cond.soleField "ResourceLedgerModel$Looker" "unit") ∈ lw_all := lw_g (lw_at lw_m9 221 rfl) rfl
theorem q2406 : (Jvm.Cond.lays "ResourceLedgerModel$Looker" "ResourceLedgerModel$Looker" "now" "I") ∈ lw_all := lw_g (lw_at lw_m9 222 rfl) rfl
theorem q2407 : (Jvm.Cond.soleField "ResourceLedgerModel$Looker" "now") ∈ lw_all := lw_g (lw_at lw_m9 223 rfl) rfl
theorem q2408 : (Jvm.Cond.lays "ResourceLedgerModel$Looker" "ResourceLedgerModel$Looker" "locals" "I") ∈ lw_all := lw_g (lw_at lw_m9 224 rfl) rfl
theorem q2409 : (Jvm.Cond.soleField "ResourceLedgerModel$Looker" "locals") ∈ lw_all := lw_g (lw_at lw_m9 225 rfl) rfl
theorem q2410 : (Jvm.Cond.laysFinal "ResourceLedgerModel$Looker" "ResourceLedgerModel$Looker" "localTypes" "[J") ∈ lw_all := lw_g (lw_at lw_m9 226 rfl) rfl
theorem q2411 : (Jvm.Cond.soleField "ResourceLedgerModel$Looker" "localTypes") ∈ lw_all := lw_g (lw_at lw_m9 227 rfl) rfl
theorem q2412 : (Jvm.Cond.lays "ResourceLedgerModel$Looker" "ResourceLedgerModel$Looker" "many" "I") ∈ lw_all := lw_g (lw_at lw_m9 228 rfl) rfl
theorem q2413 : (Jvm.Cond.soleField "ResourceLedgerModel$Looker" "many") ∈ lw_all := lw_g (lw_at lw_m9 229 rfl) rfl
theorem q2414 : (Jvm.Cond.lays "ResourceLedgerModel$Looker" "ResourceLedgerModel$Looker" "found" "I") ∈ lw_all := lw_g (lw_at lw_m9 230 rfl) rfl
theorem q2415 : (Jvm.Cond.soleField "ResourceLedgerModel$Looker" "found") ∈ lw_all := lw_g (lw_at lw_m9 231 rfl) rfl
theorem q2416 : (Jvm.Cond.laysFinal "ResourceLedgerModel$Looker" "ResourceLedgerModel$Looker" "came" "[Z") ∈ lw_all := lw_g (lw_at lw_m9 232 rfl) rfl
theorem q2417 : (Jvm.Cond.soleField "ResourceLedgerModel$Looker" "came") ∈ lw_all := lw_g (lw_at lw_m9 233 rfl) rfl
theorem q2418 : (Jvm.Cond.laysFinal "ResourceLedgerModel$Looker" "ResourceLedgerModel$Looker" "led" "[Z") ∈ lw_all := lw_g (lw_at lw_m9 234 rfl) rfl
theorem q2419 : (Jvm.Cond.soleField "ResourceLedgerModel$Looker" "led") ∈ lw_all := lw_g (lw_at lw_m9 235 rfl) rfl
theorem q2420 : (Jvm.Cond.laysFinal "ResourceLedgerModel$Looker" "ResourceLedgerModel$Looker" "thereAt" "[Z") ∈ lw_all := lw_g (lw_at lw_m9 236 rfl) rfl
theorem q2421 : (Jvm.Cond.soleField "ResourceLedgerModel$Looker" "thereAt") ∈ lw_all := lw_g (lw_at lw_m9 237 rfl) rfl
theorem q2422 : (Jvm.Cond.laysFinal "ResourceLedgerModel$Looker" "ResourceLedgerModel$Looker" "originsAt" "[J") ∈ lw_all := lw_g (lw_at lw_m9 238 rfl) rfl
theorem q2423 : (Jvm.Cond.soleField "ResourceLedgerModel$Looker" "originsAt") ∈ lw_all := lw_g (lw_at lw_m9 239 rfl) rfl
theorem q2424 : (Jvm.Cond.laysFinal "ResourceLedgerModel$Looker" "ResourceLedgerModel$Looker" "insideAt" "[Z") ∈ lw_all := lw_g (lw_at lw_m10 0 rfl) rfl
theorem q2425 : (Jvm.Cond.soleField "ResourceLedgerModel$Looker" "insideAt") ∈ lw_all := lw_g (lw_at lw_m10 1 rfl) rfl
theorem q2426 : (Jvm.Cond.laysFinal "ResourceLedgerModel$Looker" "ResourceLedgerModel$Looker" "types" "[J") ∈ lw_all := lw_g (lw_at lw_m10 2 rfl) rfl
theorem q2427 : (Jvm.Cond.soleField "ResourceLedgerModel$Looker" "types") ∈ lw_all := lw_g (lw_at lw_m10 3 rfl) rfl
theorem q2428 : (Jvm.Cond.laysFinal "ResourceLedgerModel$Looker" "ResourceLedgerModel$Looker" "origins" "[J") ∈ lw_all := lw_g (lw_at lw_m10 4 rfl) rfl
theorem q2429 : (Jvm.Cond.soleField "ResourceLedgerModel$Looker" "origins") ∈ lw_all := lw_g (lw_at lw_m10 5 rfl) rfl
theorem q2430 : (Jvm.Cond.laysFinal "ResourceLedgerModel$Looker" "ResourceLedgerModel$Looker" "insides" "[Z") ∈ lw_all := lw_g (lw_at lw_m10 6 rfl) rfl
theorem q2431 : (Jvm.Cond.soleField "ResourceLedgerModel$Looker" "insides") ∈ lw_all := lw_g (lw_at lw_m10 7 rfl) rfl
theorem q2432 : (Jvm.Cond.lays "ResourceLedgerModel$Looker" "ResourceLedgerModel$Looker" "height" "I") ∈ lw_all := lw_g (lw_at lw_m10 8 rfl) rfl
theorem q2433 : (Jvm.Cond.soleField "ResourceLedgerModel$Looker" "height") ∈ lw_all := lw_g (lw_at lw_m10 9 rfl) rfl
theorem q2434 : (Jvm.Cond.laysFinal "ResourceLedgerModel$Looker" "ResourceLedgerModel$Looker" "there" "[Z") ∈ lw_all := lw_g (lw_at lw_m10 10 rfl) rfl
theorem q2435 : (Jvm.Cond.soleField "ResourceLedgerModel$Looker" "there") ∈ lw_all := lw_g (lw_at lw_m10 11 rfl) rfl
theorem q2436 : (Jvm.Cond.laysFinal "ResourceLedgerModel$Looker" "ResourceLedgerModel$Looker" "points" "[J") ∈ lw_all := lw_g (lw_at lw_m10 12 rfl) rfl
theorem q2437 : (Jvm.Cond.soleField "ResourceLedgerModel$Looker" "points") ∈ lw_all := lw_g (lw_at lw_m10 13 rfl) rfl
theorem q2438 : (Jvm.Cond.laysFinal "ResourceLedgerModel$Looker" "ResourceLedgerModel$Looker" "within" "[Z") ∈ lw_all := lw_g (lw_at lw_m10 14 rfl) rfl
theorem q2439 : (Jvm.Cond.soleField "ResourceLedgerModel$Looker" "within") ∈ lw_all := lw_g (lw_at lw_m10 15 rfl) rfl
theorem q2440 : (Jvm.Cond.lays "ResourceLedgerModel$Looker" "ResourceLedgerModel$Looker" "fault" "I") ∈ lw_all := lw_g (lw_at lw_m10 16 rfl) rfl
theorem q2441 : (Jvm.Cond.soleField "ResourceLedgerModel$Looker" "fault") ∈ lw_all := lw_g (lw_at lw_m10 17 rfl) rfl
theorem q2442 : (Jvm.Cond.lays "ResourceLedgerModel$Looker" "ResourceLedgerModel$Looker" "taken" "J") ∈ lw_all := lw_g (lw_at lw_m10 18 rfl) rfl
theorem q2443 : (Jvm.Cond.soleField "ResourceLedgerModel$Looker" "taken") ∈ lw_all := lw_g (lw_at lw_m10 19 rfl) rfl
theorem q2444 : (Jvm.Cond.lays "ResourceLedgerModel$Looker" "ResourceLedgerModel$Looker" "takenOrigins" "J") ∈ lw_all := lw_g (lw_at lw_m10 20 rfl) rfl
theorem q2445 : (Jvm.Cond.soleField "ResourceLedgerModel$Looker" "takenOrigins") ∈ lw_all := lw_g (lw_at lw_m10 21 rfl) rfl
theorem q2446 : (Jvm.Cond.lays "ResourceLedgerModel$Looker" "ResourceLedgerModel$Looker" "takenInside" "Z") ∈ lw_all := lw_g (lw_at lw_m10 22 rfl) rfl
theorem q2447 : (Jvm.Cond.soleField "ResourceLedgerModel$Looker" "takenInside") ∈ lw_all := lw_g (lw_at lw_m10 23 rfl) rfl
theorem q2448 : (Jvm.Cond.superclass "ResourceLedgerModel$Looker" "java/lang/Object") ∈ lw_all := lw_g (lw_at lw_m10 24 rfl) rfl
theorem q3142 : (Jvm.Cond.instanceMethod ({ cls := "ResourceLedgerModel$Looker", name := "bears", desc := "(LResourceLedgerModel$Unit;I)Z" } : Jvm.MethodName)) ∈ lw_all := lw_g (lw_at lw_m12 238 rfl) rfl
theorem q3143 : (Jvm.Cond.selects "ResourceLedgerModel$Looker" ({ cls := "ResourceLedgerModel$Looker", name := "bears", desc := "(LResourceLedgerModel$Unit;I)Z" } : Jvm.MethodName) ({ cls := "ResourceLedgerModel$Looker", name := "bears", desc := "(LResourceLedgerModel$Unit;I)Z" } : Jvm.MethodName)) ∈ lw_all := lw_g (lw_at lw_m12 239 rfl) rfl
theorem q3144 : (Jvm.Cond.code ({ cls := "ResourceLedgerModel$Looker", name := "bears", desc := "(LResourceLedgerModel$Unit;I)Z" } : Jvm.MethodName) prog_29_method_13_code (5 : Nat) (Option.some Jvm.ClassFile.FieldType.boolean)) ∈ lw_all := lw_g (lw_at lw_m13 0 rfl) rfl
theorem q3145 : (Jvm.Cond.methodLink "ResourceLedgerModel$Looker" (76 : Nat) ({ cls := "ResourceLedgerModel$Unit", name := "abilitiesOf", desc := "(I)I" } : Jvm.MethodName)) ∈ lw_all := lw_g (lw_at lw_m13 1 rfl) rfl
theorem q3146 : (Jvm.Cond.methodLinkNest "ResourceLedgerModel$Looker" (85 : Nat) ({ cls := "ResourceLedgerModel$Unit", name := "fieldsOf", desc := "(I)I" } : Jvm.MethodName) "ResourceLedgerModel") ∈ lw_tbl := lw_at lw_m13 2 rfl
theorem q3147 : (Jvm.Cond.methodLink "ResourceLedgerModel$Looker" (88 : Nat) ({ cls := "ResourceLedgerModel$Unit", name := "field", desc := "(II)J" } : Jvm.MethodName)) ∈ lw_all := lw_g (lw_at lw_m13 3 rfl) rfl
theorem q3151 : (Jvm.Cond.methodLink "ResourceLedgerModel$Looker" (82 : Nat) ({ cls := "ResourceLedgerModel$Looker", name := "abilitiesFor", desc := "(J)I" } : Jvm.MethodName)) ∈ lw_all := lw_g (lw_at lw_m13 7 rfl) rfl
theorem q3152 : (Jvm.Cond.privateMethod ({ cls := "ResourceLedgerModel$Looker", name := "abilitiesFor", desc := "(J)I" } : Jvm.MethodName)) ∈ lw_tbl := lw_at lw_m13 8 rfl
theorem q3153 : (Jvm.Cond.instanceMethod ({ cls := "ResourceLedgerModel$Looker", name := "abilitiesFor", desc := "(J)I" } : Jvm.MethodName)) ∈ lw_all := lw_g (lw_at lw_m13 9 rfl) rfl
theorem q3154 : (Jvm.Cond.code ({ cls := "ResourceLedgerModel$Looker", name := "abilitiesFor", desc := "(J)I" } : Jvm.MethodName) prog_29_method_11_code (8 : Nat) (Option.some Jvm.ClassFile.FieldType.int)) ∈ lw_all := lw_g (lw_at lw_m13 10 rfl) rfl
theorem q3155 : (Jvm.Cond.methodLink "ResourceLedgerModel$Looker" (68 : Nat) ({ cls := "ResourceLedgerModel$Looker", name := "isReference", desc := "(J)Z" } : Jvm.MethodName)) ∈ lw_all := lw_g (lw_at lw_m13 11 rfl) rfl
theorem q3156 : (Jvm.Cond.static ({ cls := "ResourceLedgerModel$Looker", name := "isReference", desc := "(J)Z" } : Jvm.MethodName)) ∈ lw_all := lw_g (lw_at lw_m13 12 rfl) rfl
theorem q3157 : (Jvm.Cond.code ({ cls := "ResourceLedgerModel$Looker", name := "isReference", desc := "(J)Z" } : Jvm.MethodName) prog_29_method_6_code (3 : Nat) (Option.some Jvm.ClassFile.FieldType.boolean)) ∈ lw_all := lw_g (lw_at lw_m13 13 rfl) rfl
theorem q3158 : (Jvm.Cond.methodLink "ResourceLedgerModel$Looker" (58 : Nat) ({ cls := "ResourceLedgerModel$Looker", name := "bytesOf", desc := "(J)I" } : Jvm.MethodName)) ∈ lw_all := lw_g (lw_at lw_m13 14 rfl) rfl
theorem q3159 : (Jvm.Cond.static ({ cls := "ResourceLedgerModel$Looker", name := "bytesOf", desc := "(J)I" } : Jvm.MethodName)) ∈ lw_all := lw_g (lw_at lw_m13 15 rfl) rfl
theorem q3160 : (Jvm.Cond.code ({ cls := "ResourceLedgerModel$Looker", name := "bytesOf", desc := "(J)I" } : Jvm.MethodName) prog_29_method_4_code (3 : Nat) (Option.some Jvm.ClassFile.FieldType.int)) ∈ lw_all := lw_g (lw_at lw_m13 16 rfl) rfl
theorem q3161 : (Jvm.Cond.methodLink "ResourceLedgerModel$Looker" (62 : Nat) ({ cls := "ResourceLedgerModel$Looker", name := "byteOf", desc := "(JI)I" } : Jvm.MethodName)) ∈ lw_all := lw_g (lw_at lw_m13 17 rfl) rfl
theorem q3162 : (Jvm.Cond.static ({ cls := "ResourceLedgerModel$Looker", name := "byteOf", desc := "(JI)I" } : Jvm.MethodName)) ∈ lw_all := lw_g (lw_at lw_m13 18 rfl) rfl
theorem q3163 : (Jvm.Cond.code ({ cls := "ResourceLedgerModel$Looker", name := "byteOf", desc := "(JI)I" } : Jvm.MethodName) prog_29_method_5_code (3 : Nat) (Option.some Jvm.ClassFile.FieldType.int)) ∈ lw_all := lw_g (lw_at lw_m13 19 rfl) rfl
theorem q3164 : (Jvm.Cond.constantLong "ResourceLedgerModel$Looker" (56 : Nat) (255 : Int64)) ∈ lw_all := lw_g (lw_at lw_m13 20 rfl) rfl
theorem q3177 : (Jvm.Cond.instanceMethod ({ cls := "ResourceLedgerModel$Looker", name := "check", desc := "(LResourceLedgerModel$Unit;I)I" } : Jvm.MethodName)) ∈ lw_all := lw_g (lw_at lw_m13 33 rfl) rfl
theorem q3178 : (Jvm.Cond.selects "ResourceLedgerModel$Looker" ({ cls := "ResourceLedgerModel$Looker", name := "check", desc := "(LResourceLedgerModel$Unit;I)I" } : Jvm.MethodName) ({ cls := "ResourceLedgerModel$Looker", name := "check", desc := "(LResourceLedgerModel$Unit;I)I" } : Jvm.MethodName)) ∈ lw_all := lw_g (lw_at lw_m13 34 rfl) rfl
theorem q3179 : (Jvm.Cond.code ({ cls := "ResourceLedgerModel$Looker", name := "check", desc := "(LResourceLedgerModel$Unit;I)I" } : Jvm.MethodName) prog_29_method_37_code (4 : Nat) (Option.some Jvm.ClassFile.FieldType.int)) ∈ lw_all := lw_g (lw_at lw_m13 35 rfl) rfl
theorem q3180 : (Jvm.Cond.methodLink "ResourceLedgerModel$Looker" (245 : Nat) ({ cls := "ResourceLedgerModel$Looker", name := "begin", desc := "()V" } : Jvm.MethodName)) ∈ lw_all := lw_g (lw_at lw_m13 36 rfl) rfl
theorem q3181 : (Jvm.Cond.privateMethod ({ cls := "ResourceLedgerModel$Looker", name := "begin", desc := "()V" } : Jvm.MethodName)) ∈ lw_tbl := lw_at lw_m13 37 rfl
theorem q3182 : (Jvm.Cond.instanceMethod ({ cls := "ResourceLedgerModel$Looker", name := "begin", desc := "()V" } : Jvm.MethodName)) ∈ lw_all := lw_g (lw_at lw_m13 38 rfl) rfl
theorem q3183 : (Jvm.Cond.code ({ cls := "ResourceLedgerModel$Looker", name := "begin", desc := "()V" } : Jvm.MethodName) prog_29_method_35_code (4 : Nat) (Option.none : Option Jvm.ClassFile.FieldType)) ∈ lw_all := lw_g (lw_at lw_m13 39 rfl) rfl
theorem q3184 : (Jvm.Cond.methodLink "ResourceLedgerModel$Looker" (228 : Nat) ({ cls := "ResourceLedgerModel$Unit", name := "instructions", desc := "(I)I" } : Jvm.MethodName)) ∈ lw_all := lw_g (lw_at lw_m13 40 rfl) rfl
theorem q3188 : (Jvm.Cond.methodLink "ResourceLedgerModel$Looker" (165 : Nat) ({ cls := "ResourceLedgerModel$Unit", name := "many", desc := "(II)I" } : Jvm.MethodName)) ∈ lw_all := lw_g (lw_at lw_m13 44 rfl) rfl
theorem q3189 : (Jvm.Cond.methodLink "ResourceLedgerModel$Looker" (169 : Nat) ({ cls := "ResourceLedgerModel$Unit", name := "listed", desc := "(III)J" } : Jvm.MethodName)) ∈ lw_all := lw_g (lw_at lw_m13 45 rfl) rfl
theorem q3190 : (Jvm.Cond.methodLink "ResourceLedgerModel$Looker" (233 : Nat) ({ cls := "ResourceLedgerModel$Unit", name := "operation", desc := "(II)I" } : Jvm.MethodName)) ∈ lw_all := lw_g (lw_at lw_m13 46 rfl) rfl
theorem q3194 : (Jvm.Cond.methodLink "ResourceLedgerModel$Looker" (236 : Nat) ({ cls := "ResourceLedgerModel$Unit", name := "operand", desc := "(III)J" } : Jvm.MethodName)) ∈ lw_all := lw_g (lw_at lw_m13 50 rfl) rfl
theorem q3202 : (Jvm.Cond.methodLink "ResourceLedgerModel$Looker" (248 : Nat) ({ cls := "ResourceLedgerModel$Looker", name := "look", desc := "(I)V" } : Jvm.MethodName)) ∈ lw_all := lw_g (lw_at lw_m13 58 rfl) rfl
theorem q3203 : (Jvm.Cond.privateMethod ({ cls := "ResourceLedgerModel$Looker", name := "look", desc := "(I)V" } : Jvm.MethodName)) ∈ lw_tbl := lw_at lw_m13 59 rfl
theorem q3204 : (Jvm.Cond.instanceMethod ({ cls := "ResourceLedgerModel$Looker", name := "look", desc := "(I)V" } : Jvm.MethodName)) ∈ lw_all := lw_g (lw_at lw_m13 60 rfl) rfl
theorem q3205 : (Jvm.Cond.code ({ cls := "ResourceLedgerModel$Looker", name := "look", desc := "(I)V" } : Jvm.MethodName) prog_29_method_36_code (4 : Nat) (Option.none : Option Jvm.ClassFile.FieldType)) ∈ lw_all := lw_g (lw_at lw_m13 61 rfl) rfl
theorem q3206 : (Jvm.Cond.methodLink "ResourceLedgerModel$Looker" (117 : Nat) ({ cls := "ResourceLedgerModel$Looker", name := "need", desc := "(ZI)V" } : Jvm.MethodName)) ∈ lw_all := lw_g (lw_at lw_m13 62 rfl) rfl
theorem q3207 : (Jvm.Cond.privateMethod ({ cls := "ResourceLedgerModel$Looker", name := "need", desc := "(ZI)V" } : Jvm.MethodName)) ∈ lw_tbl := lw_at lw_m13 63 rfl
theorem q3208 : (Jvm.Cond.instanceMethod ({ cls := "ResourceLedgerModel$Looker", name := "need", desc := "(ZI)V" } : Jvm.MethodName)) ∈ lw_all := lw_g (lw_at lw_m13 64 rfl) rfl
theorem q3209 : (Jvm.Cond.code ({ cls := "ResourceLedgerModel$Looker", name := "need", desc := "(ZI)V" } : Jvm.MethodName) prog_29_method_3_code (3 : Nat) (Option.none : Option Jvm.ClassFile.FieldType)) ∈ lw_all := lw_g (lw_at lw_m13 65 rfl) rfl
theorem q3210 : (Jvm.Cond.methodLink "ResourceLedgerModel$Looker" (52 : Nat) ({ cls := "ResourceLedgerModel$Looker", name := "fail", desc := "(I)V" } : Jvm.MethodName)) ∈ lw_all := lw_g (lw_at lw_m13 66 rfl) rfl
theorem q3211 : (Jvm.Cond.privateMethod ({ cls := "ResourceLedgerModel$Looker", name := "fail", desc := "(I)V" } : Jvm.MethodName)) ∈ lw_tbl := lw_at lw_m13 67 rfl
theorem q3212 : (Jvm.Cond.instanceMethod ({ cls := "ResourceLedgerModel$Looker", name := "fail", desc := "(I)V" } : Jvm.MethodName)) ∈ lw_all := lw_g (lw_at lw_m13 68 rfl) rfl
theorem q3213 : (Jvm.Cond.code ({ cls := "ResourceLedgerModel$Looker", name := "fail", desc := "(I)V" } : Jvm.MethodName) prog_29_method_2_code (2 : Nat) (Option.none : Option Jvm.ClassFile.FieldType)) ∈ lw_all := lw_g (lw_at lw_m13 69 rfl) rfl
theorem q3214 : (Jvm.Cond.methodLink "ResourceLedgerModel$Looker" (239 : Nat) ({ cls := "ResourceLedgerModel$Looker", name := "operate", desc := "(III)V" } : Jvm.MethodName)) ∈ lw_all := lw_g (lw_at lw_m13 70 rfl) rfl
theorem q3215 : (Jvm.Cond.privateMethod ({ cls := "ResourceLedgerModel$Looker", name := "operate", desc := "(III)V" } : Jvm.MethodName)) ∈ lw_tbl := lw_at lw_m13 71 rfl
theorem q3216 : (Jvm.Cond.instanceMethod ({ cls := "ResourceLedgerModel$Looker", name := "operate", desc := "(III)V" } : Jvm.MethodName)) ∈ lw_all := lw_g (lw_at lw_m13 72 rfl) rfl
theorem q3217 : (Jvm.Cond.code ({ cls := "ResourceLedgerModel$Looker", name := "operate", desc := "(III)V" } : Jvm.MethodName) prog_29_method_30_code (4 : Nat) (Option.none : Option Jvm.ClassFile.FieldType)) ∈ lw_all := lw_g (lw_at lw_m13 73 rfl) rfl
theorem q3218 : (Jvm.Cond.methodLink "ResourceLedgerModel$Looker" (110 : Nat) ({ cls := "ResourceLedgerModel$Looker", name := "take", desc := "()V" } : Jvm.MethodName)) ∈ lw_all := lw_g (lw_at lw_m13 74 rfl) rfl
theorem q3219 : (Jvm.Cond.privateMethod ({ cls := "ResourceLedgerModel$Looker", name := "take", desc := "()V" } : Jvm.MethodName)) ∈ lw_tbl := lw_at lw_m13 75 rfl
theorem q3220 : (Jvm.Cond.instanceMethod ({ cls := "ResourceLedgerModel$Looker", name := "take", desc := "()V" } : Jvm.MethodName)) ∈ lw_all := lw_g (lw_at lw_m13 76 rfl) rfl
theorem q3221 : (Jvm.Cond.code ({ cls := "ResourceLedgerModel$Looker", name := "take", desc := "()V" } : Jvm.MethodName) prog_29_method_16_code (1 : Nat) (Option.none : Option Jvm.ClassFile.FieldType)) ∈ lw_all := lw_g (lw_at lw_m13 77 rfl) rfl
theorem q3222 : (Jvm.Cond.methodLink "ResourceLedgerModel$Looker" (139 : Nat) ({ cls := "ResourceLedgerModel$Looker", name := "has", desc := "(JI)Z" } : Jvm.MethodName)) ∈ lw_all := lw_g (lw_at lw_m13 78 rfl) rfl
theorem q3223 : (Jvm.Cond.privateMethod ({ cls := "ResourceLedgerModel$Looker", name := "has", desc := "(JI)Z" } : Jvm.MethodName)) ∈ lw_tbl := lw_at lw_m13 79 rfl
theorem q3224 : (Jvm.Cond.instanceMethod ({ cls := "ResourceLedgerModel$Looker", name := "has", desc := "(JI)Z" } : Jvm.MethodName)) ∈ lw_all := lw_g (lw_at lw_m13 80 rfl) rfl
theorem q3225 : (Jvm.Cond.code ({ cls := "ResourceLedgerModel$Looker", name := "has", desc := "(JI)Z" } : Jvm.MethodName) prog_29_method_12_code (4 : Nat) (Option.some Jvm.ClassFile.FieldType.boolean)) ∈ lw_all := lw_g (lw_at lw_m13 81 rfl) rfl
theorem q3226 : (Jvm.Cond.methodLink "ResourceLedgerModel$Looker" (194 : Nat) ({ cls := "ResourceLedgerModel$Looker", name := "giveBack", desc := "()V" } : Jvm.MethodName)) ∈ lw_all := lw_g (lw_at lw_m13 82 rfl) rfl
theorem q3227 : (Jvm.Cond.privateMethod ({ cls := "ResourceLedgerModel$Looker", name := "giveBack", desc := "()V" } : Jvm.MethodName)) ∈ lw_tbl := lw_at lw_m13 83 rfl
theorem q3228 : (Jvm.Cond.instanceMethod ({ cls := "ResourceLedgerModel$Looker", name := "giveBack", desc := "()V" } : Jvm.MethodName)) ∈ lw_all := lw_g (lw_at lw_m13 84 rfl) rfl
theorem q3229 : (Jvm.Cond.code ({ cls := "ResourceLedgerModel$Looker", name := "giveBack", desc := "()V" } : Jvm.MethodName) prog_29_method_29_code (3 : Nat) (Option.none : Option Jvm.ClassFile.FieldType)) ∈ lw_all := lw_g (lw_at lw_m13 85 rfl) rfl
theorem q3230 : (Jvm.Cond.constantLong "ResourceLedgerModel$Looker" (192 : Nat) (-280375465082881 : Int64)) ∈ lw_all := lw_g (lw_at lw_m13 86 rfl) rfl
theorem q3231 : (Jvm.Cond.methodLink "ResourceLedgerModel$Looker" (133 : Nat) ({ cls := "ResourceLedgerModel$Looker", name := "take", desc := "(J)V" } : Jvm.MethodName)) ∈ lw_all := lw_g (lw_at lw_m13 87 rfl) rfl
theorem q3232 : (Jvm.Cond.privateMethod ({ cls := "ResourceLedgerModel$Looker", name := "take", desc := "(J)V" } : Jvm.MethodName)) ∈ lw_tbl := lw_at lw_m13 88 rfl
theorem q3233 : (Jvm.Cond.instanceMethod ({ cls := "ResourceLedgerModel$Looker", name := "take", desc := "(J)V" } : Jvm.MethodName)) ∈ lw_all := lw_g (lw_at lw_m13 89 rfl) rfl
theorem q3234 : (Jvm.Cond.code ({ cls := "ResourceLedgerModel$Looker", name := "take", desc := "(J)V" } : Jvm.MethodName) prog_29_method_17_code (3 : Nat) (Option.none : Option Jvm.ClassFile.FieldType)) ∈ lw_all := lw_g (lw_at lw_m13 90 rfl) rfl
theorem q3235 : (Jvm.Cond.constantLong "ResourceLedgerModel$Looker" (126 : Nat) (3 : Int64)) ∈ lw_all := lw_g (lw_at lw_m13 91 rfl) rfl
theorem q3236 : (Jvm.Cond.constantLong "ResourceLedgerModel$Looker" (185 : Nat) (5 : Int64)) ∈ lw_all := lw_g (lw_at lw_m13 92 rfl) rfl
theorem q3237 : (Jvm.Cond.methodLink "ResourceLedgerModel$Looker" (159 : Nat) ({ cls := "ResourceLedgerModel$Looker", name := "give", desc := "(J)V" } : Jvm.MethodName)) ∈ lw_all := lw_g (lw_at lw_m13 93 rfl) rfl
theorem q3238 : (Jvm.Cond.privateMethod ({ cls := "ResourceLedgerModel$Looker", name := "give", desc := "(J)V" } : Jvm.MethodName)) ∈ lw_tbl := lw_at lw_m13 94 rfl
theorem q3239 : (Jvm.Cond.instanceMethod ({ cls := "ResourceLedgerModel$Looker", name := "give", desc := "(J)V" } : Jvm.MethodName)) ∈ lw_all := lw_g (lw_at lw_m13 95 rfl) rfl
theorem q3240 : (Jvm.Cond.code ({ cls := "ResourceLedgerModel$Looker", name := "give", desc := "(J)V" } : Jvm.MethodName) prog_29_method_15_code (3 : Nat) (Option.none : Option Jvm.ClassFile.FieldType)) ∈ lw_all := lw_g (lw_at lw_m13 96 rfl) rfl
theorem q3241 : (Jvm.Cond.methodLink "ResourceLedgerModel$Looker" (95 : Nat) ({ cls := "ResourceLedgerModel$Looker", name := "push", desc := "(JJZ)V" } : Jvm.MethodName)) ∈ lw_all := lw_g (lw_at lw_m13 97 rfl) rfl
theorem q3242 : (Jvm.Cond.privateMethod ({ cls := "ResourceLedgerModel$Looker", name := "push", desc := "(JJZ)V" } : Jvm.MethodName)) ∈ lw_tbl := lw_at lw_m13 98 rfl
theorem q3243 : (Jvm.Cond.instanceMethod ({ cls := "ResourceLedgerModel$Looker", name := "push", desc := "(JJZ)V" } : Jvm.MethodName)) ∈ lw_all := lw_g (lw_at lw_m13 99 rfl) rfl
theorem q3244 : (Jvm.Cond.code ({ cls := "ResourceLedgerModel$Looker", name := "push", desc := "(JJZ)V" } : Jvm.MethodName) prog_29_method_14_code (6 : Nat) (Option.none : Option Jvm.ClassFile.FieldType)) ∈ lw_all := lw_g (lw_at lw_m13 100 rfl) rfl
theorem q3245 : (Jvm.Cond.methodLink "ResourceLedgerModel$Looker" (197 : Nat) ({ cls := "ResourceLedgerModel$Looker", name := "onLocal", desc := "(II)V" } : Jvm.MethodName)) ∈ lw_all := lw_g (lw_at lw_m13 101 rfl) rfl
theorem q3246 : (Jvm.Cond.privateMethod ({ cls := "ResourceLedgerModel$Looker", name := "onLocal", desc := "(II)V" } : Jvm.MethodName)) ∈ lw_tbl := lw_at lw_m13 102 rfl
theorem q3247 : (Jvm.Cond.instanceMethod ({ cls := "ResourceLedgerModel$Looker", name := "onLocal", desc := "(II)V" } : Jvm.MethodName)) ∈ lw_all := lw_g (lw_at lw_m13 103 rfl) rfl
theorem q3248 : (Jvm.Cond.code ({ cls := "ResourceLedgerModel$Looker", name := "onLocal", desc := "(II)V" } : Jvm.MethodName) prog_29_method_23_code (6 : Nat) (Option.none : Option Jvm.ClassFile.FieldType)) ∈ lw_all := lw_g (lw_at lw_m13 104 rfl) rfl
theorem q3249 : (Jvm.Cond.methodLink "ResourceLedgerModel$Looker" (143 : Nat) ({ cls := "ResourceLedgerModel$Looker", name := "isPointed", desc := "(IZ)Z" } : Jvm.MethodName)) ∈ lw_all := lw_g (lw_at lw_m13 105 rfl) rfl
theorem q3250 : (Jvm.Cond.privateMethod ({ cls := "ResourceLedgerModel$Looker", name := "isPointed", desc := "(IZ)Z" } : Jvm.MethodName)) ∈ lw_tbl := lw_at lw_m13 106 rfl
theorem q3251 : (Jvm.Cond.instanceMethod ({ cls := "ResourceLedgerModel$Looker", name := "isPointed", desc := "(IZ)Z" } : Jvm.MethodName)) ∈ lw_all := lw_g (lw_at lw_m13 107 rfl) rfl
theorem q3252 : (Jvm.Cond.code ({ cls := "ResourceLedgerModel$Looker", name := "isPointed", desc := "(IZ)Z" } : Jvm.MethodName) prog_29_method_21_code (5 : Nat) (Option.some Jvm.ClassFile.FieldType.boolean)) ∈ lw_all := lw_g (lw_at lw_m13 108 rfl) rfl
theorem q3253 : (Jvm.Cond.methodLink "ResourceLedgerModel$Looker" (121 : Nat) ({ cls := "ResourceLedgerModel$Looker", name := "writes", desc := "(J)Z" } : Jvm.MethodName)) ∈ lw_all := lw_g (lw_at lw_m13 109 rfl) rfl
theorem q3254 : (Jvm.Cond.static ({ cls := "ResourceLedgerModel$Looker", name := "writes", desc := "(J)Z" } : Jvm.MethodName)) ∈ lw_all := lw_g (lw_at lw_m13 110 rfl) rfl
theorem q3255 : (Jvm.Cond.code ({ cls := "ResourceLedgerModel$Looker", name := "writes", desc := "(J)Z" } : Jvm.MethodName) prog_29_method_7_code (2 : Nat) (Option.some Jvm.ClassFile.FieldType.boolean)) ∈ lw_all := lw_g (lw_at lw_m13 111 rfl) rfl
theorem q3256 : (Jvm.Cond.methodLink "ResourceLedgerModel$Looker" (147 : Nat) ({ cls := "ResourceLedgerModel$Looker", name := "before", desc := "(IJ)J" } : Jvm.MethodName)) ∈ lw_all := lw_g (lw_at lw_m13 112 rfl) rfl
theorem q3257 : (Jvm.Cond.static ({ cls := "ResourceLedgerModel$Looker", name := "before", desc := "(IJ)J" } : Jvm.MethodName)) ∈ lw_all := lw_g (lw_at lw_m13 113 rfl) rfl
theorem q3258 : (Jvm.Cond.code ({ cls := "ResourceLedgerModel$Looker", name := "before", desc := "(IJ)J" } : Jvm.MethodName) prog_29_method_9_code (3 : Nat) (Option.some Jvm.ClassFile.FieldType.long)) ∈ lw_all := lw_g (lw_at lw_m13 114 rfl) rfl
theorem q3259 : (Jvm.Cond.methodLink "ResourceLedgerModel$Looker" (201 : Nat) ({ cls := "ResourceLedgerModel$Looker", name := "onReference", desc := "(III)V" } : Jvm.MethodName)) ∈ lw_all := lw_g (lw_at lw_m13 115 rfl) rfl
theorem q3260 : (Jvm.Cond.privateMethod ({ cls := "ResourceLedgerModel$Looker", name := "onReference", desc := "(III)V" } : Jvm.MethodName)) ∈ lw_tbl := lw_at lw_m13 116 rfl
theorem q3261 : (Jvm.Cond.instanceMethod ({ cls := "ResourceLedgerModel$Looker", name := "onReference", desc := "(III)V" } : Jvm.MethodName)) ∈ lw_all := lw_g (lw_at lw_m13 117 rfl) rfl
theorem q3262 : (Jvm.Cond.code ({ cls := "ResourceLedgerModel$Looker", name := "onReference", desc := "(III)V" } : Jvm.MethodName) prog_29_method_24_code (6 : Nat) (Option.none : Option Jvm.ClassFile.FieldType)) ∈ lw_all := lw_g (lw_at lw_m13 118 rfl) rfl
theorem q3263 : (Jvm.Cond.methodLink "ResourceLedgerModel$Looker" (151 : Nat) ({ cls := "ResourceLedgerModel$Looker", name := "structureType", desc := "(I)J" } : Jvm.MethodName)) ∈ lw_all := lw_g (lw_at lw_m13 119 rfl) rfl
theorem q3264 : (Jvm.Cond.static ({ cls := "ResourceLedgerModel$Looker", name := "structureType", desc := "(I)J" } : Jvm.MethodName)) ∈ lw_all := lw_g (lw_at lw_m13 120 rfl) rfl
theorem q3265 : (Jvm.Cond.code ({ cls := "ResourceLedgerModel$Looker", name := "structureType", desc := "(I)J" } : Jvm.MethodName) prog_29_method_10_code (1 : Nat) (Option.some Jvm.ClassFile.FieldType.long)) ∈ lw_all := lw_g (lw_at lw_m13 121 rfl) rfl
theorem q3266 : (Jvm.Cond.constantLong "ResourceLedgerModel$Looker" (66 : Nat) (1536 : Int64)) ∈ lw_all := lw_g (lw_at lw_m13 122 rfl) rfl
theorem q3267 : (Jvm.Cond.methodLink "ResourceLedgerModel$Looker" (155 : Nat) ({ cls := "ResourceLedgerModel$Looker", name := "takeReference", desc := "(JZ)V" } : Jvm.MethodName)) ∈ lw_all := lw_g (lw_at lw_m13 123 rfl) rfl
theorem q3268 : (Jvm.Cond.privateMethod ({ cls := "ResourceLedgerModel$Looker", name := "takeReference", desc := "(JZ)V" } : Jvm.MethodName)) ∈ lw_tbl := lw_at lw_m13 124 rfl
theorem q3269 : (Jvm.Cond.instanceMethod ({ cls := "ResourceLedgerModel$Looker", name := "takeReference", desc := "(JZ)V" } : Jvm.MethodName)) ∈ lw_all := lw_g (lw_at lw_m13 125 rfl) rfl
theorem q3270 : (Jvm.Cond.code ({ cls := "ResourceLedgerModel$Looker", name := "takeReference", desc := "(JZ)V" } : Jvm.MethodName) prog_29_method_18_code (5 : Nat) (Option.none : Option Jvm.ClassFile.FieldType)) ∈ lw_all := lw_g (lw_at lw_m13 126 rfl) rfl
theorem q3271 : (Jvm.Cond.methodLink "ResourceLedgerModel$Looker" (113 : Nat) ({ cls := "ResourceLedgerModel$Looker", name := "pointed", desc := "(J)J" } : Jvm.MethodName)) ∈ lw_all := lw_g (lw_at lw_m13 127 rfl) rfl
theorem q3272 : (Jvm.Cond.static ({ cls := "ResourceLedgerModel$Looker", name := "pointed", desc := "(J)J" } : Jvm.MethodName)) ∈ lw_all := lw_g (lw_at lw_m13 128 rfl) rfl
theorem q3273 : (Jvm.Cond.code ({ cls := "ResourceLedgerModel$Looker", name := "pointed", desc := "(J)J" } : Jvm.MethodName) prog_29_method_8_code (3 : Nat) (Option.some Jvm.ClassFile.FieldType.long)) ∈ lw_all := lw_g (lw_at lw_m13 129 rfl) rfl
theorem q3274 : (Jvm.Cond.methodLink "ResourceLedgerModel$Looker" (162 : Nat) ({ cls := "ResourceLedgerModel$Looker", name := "isSole", desc := "(J)Z" } : Jvm.MethodName)) ∈ lw_all := lw_g (lw_at lw_m13 130 rfl) rfl
theorem q3275 : (Jvm.Cond.privateMethod ({ cls := "ResourceLedgerModel$Looker", name := "isSole", desc := "(J)Z" } : Jvm.MethodName)) ∈ lw_tbl := lw_at lw_m13 131 rfl
theorem q3276 : (Jvm.Cond.instanceMethod ({ cls := "ResourceLedgerModel$Looker", name := "isSole", desc := "(J)Z" } : Jvm.MethodName)) ∈ lw_all := lw_g (lw_at lw_m13 132 rfl) rfl
theorem q3277 : (Jvm.Cond.code ({ cls := "ResourceLedgerModel$Looker", name := "isSole", desc := "(J)Z" } : Jvm.MethodName) prog_29_method_22_code (5 : Nat) (Option.some Jvm.ClassFile.FieldType.boolean)) ∈ lw_all := lw_g (lw_at lw_m13 133 rfl) rfl
theorem q3278 : (Jvm.Cond.methodLink "ResourceLedgerModel$Looker" (205 : Nat) ({ cls := "ResourceLedgerModel$Looker", name := "pack", desc := "(ZI)V" } : Jvm.MethodName)) ∈ lw_all := lw_g (lw_at lw_m13 134 rfl) rfl
theorem q3279 : (Jvm.Cond.privateMethod ({ cls := "ResourceLedgerModel$Looker", name := "pack", desc := "(ZI)V" } : Jvm.MethodName)) ∈ lw_tbl := lw_at lw_m13 135 rfl
theorem q3280 : (Jvm.Cond.instanceMethod ({ cls := "ResourceLedgerModel$Looker", name := "pack", desc := "(ZI)V" } : Jvm.MethodName)) ∈ lw_all := lw_g (lw_at lw_m13 136 rfl) rfl
theorem q3281 : (Jvm.Cond.code ({ cls := "ResourceLedgerModel$Looker", name := "pack", desc := "(ZI)V" } : Jvm.MethodName) prog_29_method_31_code (4 : Nat) (Option.none : Option Jvm.ClassFile.FieldType)) ∈ lw_all := lw_g (lw_at lw_m13 137 rfl) rfl
theorem q3282 : (Jvm.Cond.methodLink "ResourceLedgerModel$Looker" (208 : Nat) ({ cls := "ResourceLedgerModel$Looker", name := "call", desc := "(I)V" } : Jvm.MethodName)) ∈ lw_all := lw_g (lw_at lw_m13 138 rfl) rfl
theorem q3283 : (Jvm.Cond.privateMethod ({ cls := "ResourceLedgerModel$Looker", name := "call", desc := "(I)V" } : Jvm.MethodName)) ∈ lw_tbl := lw_at lw_m13 139 rfl
theorem q3284 : (Jvm.Cond.instanceMethod ({ cls := "ResourceLedgerModel$Looker", name := "call", desc := "(I)V" } : Jvm.MethodName)) ∈ lw_all := lw_g (lw_at lw_m13 140 rfl) rfl
theorem q3285 : (Jvm.Cond.code ({ cls := "ResourceLedgerModel$Looker", name := "call", desc := "(I)V" } : Jvm.MethodName) prog_29_method_25_code (13 : Nat) (Option.none : Option Jvm.ClassFile.FieldType)) ∈ lw_all := lw_g (lw_at lw_m13 141 rfl) rfl
theorem q3286 : (Jvm.Cond.methodLink "ResourceLedgerModel$Looker" (173 : Nat) ({ cls := "ResourceLedgerModel$Unit", name := "flags", desc := "(I)I" } : Jvm.MethodName)) ∈ lw_all := lw_g (lw_at lw_m13 142 rfl) rfl
theorem q3287 : (Jvm.Cond.methodLink "ResourceLedgerModel$Looker" (211 : Nat) ({ cls := "ResourceLedgerModel$Looker", name := "onNumbers", desc := "(I)V" } : Jvm.MethodName)) ∈ lw_all := lw_g (lw_at lw_m13 143 rfl) rfl
theorem q3288 : (Jvm.Cond.privateMethod ({ cls := "ResourceLedgerModel$Looker", name := "onNumbers", desc := "(I)V" } : Jvm.MethodName)) ∈ lw_tbl := lw_at lw_m13 144 rfl
theorem q3289 : (Jvm.Cond.instanceMethod ({ cls := "ResourceLedgerModel$Looker", name := "onNumbers", desc := "(I)V" } : Jvm.MethodName)) ∈ lw_all := lw_g (lw_at lw_m13 145 rfl) rfl
theorem q3290 : (Jvm.Cond.code ({ cls := "ResourceLedgerModel$Looker", name := "onNumbers", desc := "(I)V" } : Jvm.MethodName) prog_29_method_26_code (2 : Nat) (Option.none : Option Jvm.ClassFile.FieldType)) ∈ lw_all := lw_g (lw_at lw_m13 146 rfl) rfl
theorem q3291 : (Jvm.Cond.methodLink "ResourceLedgerModel$Looker" (179 : Nat) ({ cls := "ResourceLedgerModel$Looker", name := "takeNumbers", desc := "(Z)V" } : Jvm.MethodName)) ∈ lw_all := lw_g (lw_at lw_m13 147 rfl) rfl
theorem q3292 : (Jvm.Cond.privateMethod ({ cls := "ResourceLedgerModel$Looker", name := "takeNumbers", desc := "(Z)V" } : Jvm.MethodName)) ∈ lw_tbl := lw_at lw_m13 148 rfl
theorem q3293 : (Jvm.Cond.instanceMethod ({ cls := "ResourceLedgerModel$Looker", name := "takeNumbers", desc := "(Z)V" } : Jvm.MethodName)) ∈ lw_all := lw_g (lw_at lw_m13 149 rfl) rfl
theorem q3294 : (Jvm.Cond.code ({ cls := "ResourceLedgerModel$Looker", name := "takeNumbers", desc := "(Z)V" } : Jvm.MethodName) prog_29_method_20_code (2 : Nat) (Option.none : Option Jvm.ClassFile.FieldType)) ∈ lw_all := lw_g (lw_at lw_m13 150 rfl) rfl
theorem q3295 : (Jvm.Cond.methodLink "ResourceLedgerModel$Looker" (130 : Nat) ({ cls := "ResourceLedgerModel$Looker", name := "isNumber", desc := "(J)Z" } : Jvm.MethodName)) ∈ lw_all := lw_g (lw_at lw_m13 151 rfl) rfl
theorem q3296 : (Jvm.Cond.static ({ cls := "ResourceLedgerModel$Looker", name := "isNumber", desc := "(J)Z" } : Jvm.MethodName)) ∈ lw_all := lw_g (lw_at lw_m13 152 rfl) rfl
theorem q3297 : (Jvm.Cond.code ({ cls := "ResourceLedgerModel$Looker", name := "isNumber", desc := "(J)Z" } : Jvm.MethodName) prog_29_method_19_code (2 : Nat) (Option.some Jvm.ClassFile.FieldType.boolean)) ∈ lw_all := lw_g (lw_at lw_m13 153 rfl) rfl
theorem q3298 : (Jvm.Cond.constantLong "ResourceLedgerModel$Looker" (124 : Nat) (2 : Int64)) ∈ lw_all := lw_g (lw_at lw_m13 154 rfl) rfl
theorem q3299 : (Jvm.Cond.constantLong "ResourceLedgerModel$Looker" (128 : Nat) (4 : Int64)) ∈ lw_all := lw_g (lw_at lw_m13 155 rfl) rfl
theorem q3300 : (Jvm.Cond.constantLong "ResourceLedgerModel$Looker" (183 : Nat) (40 : Int64)) ∈ lw_all := lw_g (lw_at lw_m13 156 rfl) rfl
theorem q3301 : (Jvm.Cond.methodLink "ResourceLedgerModel$Looker" (214 : Nat) ({ cls := "ResourceLedgerModel$Looker", name := "onResource", desc := "(II)V" } : Jvm.MethodName)) ∈ lw_all := lw_g (lw_at lw_m13 157 rfl) rfl
theorem q3302 : (Jvm.Cond.privateMethod ({ cls := "ResourceLedgerModel$Looker", name := "onResource", desc := "(II)V" } : Jvm.MethodName)) ∈ lw_tbl := lw_at lw_m13 158 rfl
theorem q3303 : (Jvm.Cond.instanceMethod ({ cls := "ResourceLedgerModel$Looker", name := "onResource", desc := "(II)V" } : Jvm.MethodName)) ∈ lw_all := lw_g (lw_at lw_m13 159 rfl) rfl
theorem q3304 : (Jvm.Cond.code ({ cls := "ResourceLedgerModel$Looker", name := "onResource", desc := "(II)V" } : Jvm.MethodName) prog_29_method_27_code (6 : Nat) (Option.none : Option Jvm.ClassFile.FieldType)) ∈ lw_all := lw_g (lw_at lw_m13 160 rfl) rfl
theorem q3305 : (Jvm.Cond.methodLink "ResourceLedgerModel$Looker" (217 : Nat) ({ cls := "ResourceLedgerModel$Looker", name := "onVector", desc := "(III)V" } : Jvm.MethodName)) ∈ lw_all := lw_g (lw_at lw_m13 161 rfl) rfl
theorem q3306 : (Jvm.Cond.privateMethod ({ cls := "ResourceLedgerModel$Looker", name := "onVector", desc := "(III)V" } : Jvm.MethodName)) ∈ lw_tbl := lw_at lw_m13 162 rfl
theorem q3307 : (Jvm.Cond.instanceMethod ({ cls := "ResourceLedgerModel$Looker", name := "onVector", desc := "(III)V" } : Jvm.MethodName)) ∈ lw_all := lw_g (lw_at lw_m13 163 rfl) rfl
theorem q3308 : (Jvm.Cond.code ({ cls := "ResourceLedgerModel$Looker", name := "onVector", desc := "(III)V" } : Jvm.MethodName) prog_29_method_28_code (10 : Nat) (Option.none : Option Jvm.ClassFile.FieldType)) ∈ lw_all := lw_g (lw_at lw_m13 164 rfl) rfl
theorem q3309 : (Jvm.Cond.constantLong "ResourceLedgerModel$Looker" (187 : Nat) (1794 : Int64)) ∈ lw_all := lw_g (lw_at lw_m13 165 rfl) rfl
theorem q3310 : (Jvm.Cond.methodLink "ResourceLedgerModel$Looker" (189 : Nat) ({ cls := "ResourceLedgerModel$Unit", name := "element", desc := "(I)J" } : Jvm.MethodName)) ∈ lw_all := lw_g (lw_at lw_m13 166 rfl) rfl
theorem q3314 : (Jvm.Cond.methodLink "ResourceLedgerModel$Looker" (242 : Nat) ({ cls := "ResourceLedgerModel$Looker", name := "come", desc := "(II)V" } : Jvm.MethodName)) ∈ lw_all := lw_g (lw_at lw_m13 170 rfl) rfl
theorem q3315 : (Jvm.Cond.privateMethod ({ cls := "ResourceLedgerModel$Looker", name := "come", desc := "(II)V" } : Jvm.MethodName)) ∈ lw_tbl := lw_at lw_m13 171 rfl
theorem q3316 : (Jvm.Cond.instanceMethod ({ cls := "ResourceLedgerModel$Looker", name := "come", desc := "(II)V" } : Jvm.MethodName)) ∈ lw_all := lw_g (lw_at lw_m13 172 rfl) rfl
theorem q3317 : (Jvm.Cond.code ({ cls := "ResourceLedgerModel$Looker", name := "come", desc := "(II)V" } : Jvm.MethodName) prog_29_method_32_code (6 : Nat) (Option.none : Option Jvm.ClassFile.FieldType)) ∈ lw_all := lw_g (lw_at lw_m13 173 rfl) rfl
theorem q3318 : (Jvm.Cond.methodLink "ResourceLedgerModel$Looker" (220 : Nat) ({ cls := "ResourceLedgerModel$Looker", name := "meet", desc := "(II)V" } : Jvm.MethodName)) ∈ lw_all := lw_g (lw_at lw_m13 174 rfl) rfl
theorem q3319 : (Jvm.Cond.privateMethod ({ cls := "ResourceLedgerModel$Looker", name := "meet", desc := "(II)V" } : Jvm.MethodName)) ∈ lw_tbl := lw_at lw_m13 175 rfl
theorem q3320 : (Jvm.Cond.instanceMethod ({ cls := "ResourceLedgerModel$Looker", name := "meet", desc := "(II)V" } : Jvm.MethodName)) ∈ lw_all := lw_g (lw_at lw_m13 176 rfl) rfl
theorem q3321 : (Jvm.Cond.code ({ cls := "ResourceLedgerModel$Looker", name := "meet", desc := "(II)V" } : Jvm.MethodName) prog_29_method_33_code (4 : Nat) (Option.none : Option Jvm.ClassFile.FieldType)) ∈ lw_all := lw_g (lw_at lw_m13 177 rfl) rfl
theorem q3322 : (Jvm.Cond.methodLink "ResourceLedgerModel$Looker" (223 : Nat) ({ cls := "ResourceLedgerModel$Looker", name := "back", desc := "(II)V" } : Jvm.MethodName)) ∈ lw_all := lw_g (lw_at lw_m13 178 rfl) rfl
theorem q3323 : (Jvm.Cond.privateMethod ({ cls := "ResourceLedgerModel$Looker", name := "back", desc := "(II)V" } : Jvm.MethodName)) ∈ lw_tbl := lw_at lw_m13 179 rfl
theorem q3324 : (Jvm.Cond.instanceMethod ({ cls := "ResourceLedgerModel$Looker", name := "back", desc := "(II)V" } : Jvm.MethodName)) ∈ lw_all := lw_g (lw_at lw_m13 180 rfl) rfl
theorem q3325 : (Jvm.Cond.code ({ cls := "ResourceLedgerModel$Looker", name := "back", desc := "(II)V" } : Jvm.MethodName) prog_29_method_34_code (3 : Nat) (Option.none : Option Jvm.ClassFile.FieldType)) ∈ lw_all := lw_g (lw_at lw_m13 181 rfl) rfl
theorem q3326 : (Jvm.Cond.constantLong "ResourceLedgerModel$Looker" (226 : Nat) (-1 : Int64)) ∈ lw_all := lw_g (lw_at lw_m13 182 rfl) rfl
theorem in_X25 : ∀ w ∈ wsX250, w ∈ lw_all := lw_in wsX250 [2404, 2406, 2408, 2410, 2412, 2414, 2416, 2418, 2420, 2422, 2424, 2426, 2428, 2430, 2432, 2434, 2436, 2438, 2440, 2442, 2444, 2446] (by decide +kernel) (by decide +kernel)
end
section
-- ResourceLedgerModel$Wide
set_option maxRecDepth 100000
def RX26 : String := "ResourceLedgerModel$Wide"
def TX26 : u_T := fun k => match k with
  | 0 => ("ResourceLedgerModel$Wide", "a", "[I", true)
  | 1 => ("ResourceLedgerModel$Wide", "b", "[I", true)
  | 2 => ("ResourceLedgerModel$Wide", "\x72", "[I", true)
  | 3 => ("ResourceLedgerModel$Wide", "high", "J", false)
  | _ => ("ResourceLedgerModel$Wide", "low", "J", false)
def tyX26 : Nat → FieldType := fun k => match k with
  | 0 => .array .int
  | 1 => .array .int
  | 2 => .array .int
  | 3 => .long
  | _ => .long
abbrev wsX260 : List Cond := u_ws RX26 TX26 5
theorem nmX26 : ∀ a, a < 5 → ∀ b, b < 5 → a ≠ b → (TX26 a).2.1 ≠ (TX26 b).2.1 := by decide +kernel
theorem tyX26_ok : ∀ k, k < 5 → parseFieldDescriptor (TX26 k).2.2.1 = some (tyX26 k) := by decide +kernel
abbrev cX26_init : ByteArray := prog_33_method_1_code
def yX26_init : MethodName := ⟨RX26, "<init>", "()V"⟩
abbrev cX26_shift : ByteArray := prog_33_method_13_code
def yX26_shift : MethodName := ⟨RX26, "shift", "(ZJJII)V"⟩
abbrev cX26_reckon : ByteArray := prog_33_method_8_code
def yX26_reckon : MethodName := ⟨RX26, "reckon", "(IJJJJI)Z"⟩
abbrev cX26_lay : ByteArray := prog_33_method_2_code
def yX26_lay : MethodName := ⟨RX26, "lay", "([IJJ)V"⟩
abbrev cX26_clear : ByteArray := prog_33_method_7_code
def yX26_clear : MethodName := ⟨RX26, "clear", "()V"⟩
abbrev cX26_add : ByteArray := prog_33_method_9_code
def yX26_add : MethodName := ⟨RX26, "add", "(I)Z"⟩
abbrev cX26_result : ByteArray := prog_33_method_4_code
def yX26_result : MethodName := ⟨RX26, "result", "(I)Z"⟩
abbrev cX26_four : ByteArray := prog_33_method_3_code
def yX26_four : MethodName := ⟨RX26, "four", "([II)J"⟩
abbrev cX26_isOf : ByteArray := prog_33_method_5_code
def yX26_isOf : MethodName := ⟨RX26, "isOf", "(JJI)Z"⟩
abbrev cX26_compare : ByteArray := prog_33_method_6_code
def yX26_compare : MethodName := ⟨RX26, "compare", "(JJJJ)I"⟩
abbrev cX26_subtract : ByteArray := prog_33_method_10_code
def yX26_subtract : MethodName := ⟨RX26, "subtract", "(I)Z"⟩
abbrev cX26_multiply : ByteArray := prog_33_method_11_code
def yX26_multiply : MethodName := ⟨RX26, "multiply", "(I)Z"⟩
abbrev cX26_divide : ByteArray := prog_33_method_12_code
def yX26_divide : MethodName := ⟨RX26, "divide", "(ZI)Z"⟩
theorem q298 : (Jvm.Cond.initialized "ResourceLedgerModel$Wide") ∈ lw_all := lw_g (lw_at lw_m1 34 rfl) rfl
theorem q2450 : (Jvm.Cond.instantiable "ResourceLedgerModel$Wide" (5 : Nat)) ∈ lw_all := lw_g (lw_at lw_m10 26 rfl) rfl
theorem q2452 : (Jvm.Cond.instanceMethod ({ cls := "ResourceLedgerModel$Wide", name := "<init>", desc := "()V" } : Jvm.MethodName)) ∈ lw_all := lw_g (lw_at lw_m10 28 rfl) rfl
theorem q2453 : (Jvm.Cond.code ({ cls := "ResourceLedgerModel$Wide", name := "<init>", desc := "()V" } : Jvm.MethodName) prog_33_method_1_code (1 : Nat) (Option.none : Option Jvm.ClassFile.FieldType)) ∈ lw_all := lw_g (lw_at lw_m10 29 rfl) rfl
theorem q2454 : (Jvm.Cond.methodLink "ResourceLedgerModel$Wide" (1 : Nat) ({ cls := "java/lang/Object", name := "<init>", desc := "()V" } : Jvm.MethodName)) ∈ lw_all := lw_g (lw_at lw_m10 30 rfl) rfl
theorem q2455 : (Jvm.Cond.fieldLink "ResourceLedgerModel$Wide" (7 : Nat) "ResourceLedgerModel$Wide" "a" "[I") ∈ lw_all := lw_g (lw_at lw_m10 31 rfl) rfl
theorem q2456 : (Jvm.Cond.fieldLink "ResourceLedgerModel$Wide" (13 : Nat) "ResourceLedgerModel$Wide" "b" "[I") ∈ lw_all := lw_g (lw_at lw_m10 32 rfl) rfl
theorem q2457 : (Jvm.Cond.fieldLink "ResourceLedgerModel$Wide" (16 : Nat) "ResourceLedgerModel$Wide" "\x72" "[I") ∈ lw_all := lw_g (lw_at lw_m10 33 rfl) rfl
theorem q2458 : (Jvm.Cond.fieldLink "ResourceLedgerModel$Wide" (25 : Nat) "ResourceLedgerModel$Wide" "high" "J") ∈ lw_all := lw_g (lw_at lw_m10 34 rfl) rfl
theorem q2460 : (Jvm.Cond.fieldLink "ResourceLedgerModel$Wide" (29 : Nat) "ResourceLedgerModel$Wide" "low" "J") ∈ lw_all := lw_g (lw_at lw_m10 36 rfl) rfl
theorem q2462 : (Jvm.Cond.laysFinal "ResourceLedgerModel$Wide" "ResourceLedgerModel$Wide" "a" "[I") ∈ lw_all := lw_g (lw_at lw_m10 38 rfl) rfl
theorem q2463 : (Jvm.Cond.soleField "ResourceLedgerModel$Wide" "a") ∈ lw_all := lw_g (lw_at lw_m10 39 rfl) rfl
theorem q2464 : (Jvm.Cond.laysFinal "ResourceLedgerModel$Wide" "ResourceLedgerModel$Wide" "b" "[I") ∈ lw_all := lw_g (lw_at lw_m10 40 rfl) rfl
theorem q2465 : (Jvm.Cond.soleField "ResourceLedgerModel$Wide" "b") ∈ lw_all := lw_g (lw_at lw_m10 41 rfl) rfl
theorem q2466 : (Jvm.Cond.laysFinal "ResourceLedgerModel$Wide" "ResourceLedgerModel$Wide" "\x72" "[I") ∈ lw_all := lw_g (lw_at lw_m10 42 rfl) rfl
theorem q2467 : (Jvm.Cond.soleField "ResourceLedgerModel$Wide" "\x72") ∈ lw_all := lw_g (lw_at lw_m10 43 rfl) rfl
theorem q2468 : (Jvm.Cond.lays "ResourceLedgerModel$Wide" "ResourceLedgerModel$Wide" "high" "J") ∈ lw_all := lw_g (lw_at lw_m10 44 rfl) rfl
theorem q2469 : (Jvm.Cond.soleField "ResourceLedgerModel$Wide" "high") ∈ lw_all := lw_g (lw_at lw_m10 45 rfl) rfl
theorem q2470 : (Jvm.Cond.lays "ResourceLedgerModel$Wide" "ResourceLedgerModel$Wide" "low" "J") ∈ lw_all := lw_g (lw_at lw_m10 46 rfl) rfl
theorem q2471 : (Jvm.Cond.soleField "ResourceLedgerModel$Wide" "low") ∈ lw_all := lw_g (lw_at lw_m10 47 rfl) rfl
theorem q2472 : (Jvm.Cond.superclass "ResourceLedgerModel$Wide" "java/lang/Object") ∈ lw_all := lw_g (lw_at lw_m10 48 rfl) rfl
theorem q3467 : (Jvm.Cond.instanceMethod ({ cls := "ResourceLedgerModel$Wide", name := "shift", desc := "(ZJJII)V" } : Jvm.MethodName)) ∈ lw_all := lw_g (lw_at lw_m14 83 rfl) rfl
theorem q3468 : (Jvm.Cond.selects "ResourceLedgerModel$Wide" ({ cls := "ResourceLedgerModel$Wide", name := "shift", desc := "(ZJJII)V" } : Jvm.MethodName) ({ cls := "ResourceLedgerModel$Wide", name := "shift", desc := "(ZJJII)V" } : Jvm.MethodName)) ∈ lw_all := lw_g (lw_at lw_m14 84 rfl) rfl
theorem q3469 : (Jvm.Cond.code ({ cls := "ResourceLedgerModel$Wide", name := "shift", desc := "(ZJJII)V" } : Jvm.MethodName) prog_33_method_13_code (9 : Nat) (Option.none : Option Jvm.ClassFile.FieldType)) ∈ lw_all := lw_g (lw_at lw_m14 85 rfl) rfl
theorem q3470 : (Jvm.Cond.constantLong "ResourceLedgerModel$Wide" (69 : Nat) (255 : Int64)) ∈ lw_all := lw_g (lw_at lw_m14 86 rfl) rfl
theorem q3476 : (Jvm.Cond.instanceMethod ({ cls := "ResourceLedgerModel$Wide", name := "reckon", desc := "(IJJJJI)Z" } : Jvm.MethodName)) ∈ lw_all := lw_g (lw_at lw_m14 92 rfl) rfl
theorem q3477 : (Jvm.Cond.selects "ResourceLedgerModel$Wide" ({ cls := "ResourceLedgerModel$Wide", name := "reckon", desc := "(IJJJJI)Z" } : Jvm.MethodName) ({ cls := "ResourceLedgerModel$Wide", name := "reckon", desc := "(IJJJJI)Z" } : Jvm.MethodName)) ∈ lw_all := lw_g (lw_at lw_m14 93 rfl) rfl
theorem q3478 : (Jvm.Cond.code ({ cls := "ResourceLedgerModel$Wide", name := "reckon", desc := "(IJJJJI)Z" } : Jvm.MethodName) prog_33_method_8_code (11 : Nat) (Option.some Jvm.ClassFile.FieldType.boolean)) ∈ lw_all := lw_g (lw_at lw_m14 94 rfl) rfl
theorem q3479 : (Jvm.Cond.methodLink "ResourceLedgerModel$Wide" (40 : Nat) ({ cls := "ResourceLedgerModel$Wide", name := "lay", desc := "([IJJ)V" } : Jvm.MethodName)) ∈ lw_all := lw_g (lw_at lw_m14 95 rfl) rfl
theorem q3480 : (Jvm.Cond.static ({ cls := "ResourceLedgerModel$Wide", name := "lay", desc := "([IJJ)V" } : Jvm.MethodName)) ∈ lw_all := lw_g (lw_at lw_m14 96 rfl) rfl
theorem q3481 : (Jvm.Cond.code ({ cls := "ResourceLedgerModel$Wide", name := "lay", desc := "([IJJ)V" } : Jvm.MethodName) prog_33_method_2_code (6 : Nat) (Option.none : Option Jvm.ClassFile.FieldType)) ∈ lw_all := lw_g (lw_at lw_m14 97 rfl) rfl
theorem q3482 : (Jvm.Cond.constantLong "ResourceLedgerModel$Wide" (19 : Nat) (65535 : Int64)) ∈ lw_all := lw_g (lw_at lw_m14 98 rfl) rfl
theorem q3483 : (Jvm.Cond.methodLink "ResourceLedgerModel$Wide" (44 : Nat) ({ cls := "ResourceLedgerModel$Wide", name := "clear", desc := "()V" } : Jvm.MethodName)) ∈ lw_all := lw_g (lw_at lw_m14 99 rfl) rfl
theorem q3484 : (Jvm.Cond.privateMethod ({ cls := "ResourceLedgerModel$Wide", name := "clear", desc := "()V" } : Jvm.MethodName)) ∈ lw_tbl := lw_at lw_m14 100 rfl
theorem q3485 : (Jvm.Cond.instanceMethod ({ cls := "ResourceLedgerModel$Wide", name := "clear", desc := "()V" } : Jvm.MethodName)) ∈ lw_all := lw_g (lw_at lw_m14 101 rfl) rfl
theorem q3486 : (Jvm.Cond.code ({ cls := "ResourceLedgerModel$Wide", name := "clear", desc := "()V" } : Jvm.MethodName) prog_33_method_7_code (2 : Nat) (Option.none : Option Jvm.ClassFile.FieldType)) ∈ lw_all := lw_g (lw_at lw_m14 102 rfl) rfl
theorem q3487 : (Jvm.Cond.methodLink "ResourceLedgerModel$Wide" (47 : Nat) ({ cls := "ResourceLedgerModel$Wide", name := "add", desc := "(I)Z" } : Jvm.MethodName)) ∈ lw_all := lw_g (lw_at lw_m14 103 rfl) rfl
theorem q3488 : (Jvm.Cond.privateMethod ({ cls := "ResourceLedgerModel$Wide", name := "add", desc := "(I)Z" } : Jvm.MethodName)) ∈ lw_tbl := lw_at lw_m14 104 rfl
theorem q3489 : (Jvm.Cond.instanceMethod ({ cls := "ResourceLedgerModel$Wide", name := "add", desc := "(I)Z" } : Jvm.MethodName)) ∈ lw_all := lw_g (lw_at lw_m14 105 rfl) rfl
theorem q3490 : (Jvm.Cond.code ({ cls := "ResourceLedgerModel$Wide", name := "add", desc := "(I)Z" } : Jvm.MethodName) prog_33_method_9_code (5 : Nat) (Option.some Jvm.ClassFile.FieldType.boolean)) ∈ lw_all := lw_g (lw_at lw_m14 106 rfl) rfl
theorem q3491 : (Jvm.Cond.constant "ResourceLedgerModel$Wide" (65 : Nat) (65535 : Int32)) ∈ lw_all := lw_g (lw_at lw_m14 107 rfl) rfl
theorem q3492 : (Jvm.Cond.methodLink "ResourceLedgerModel$Wide" (66 : Nat) ({ cls := "ResourceLedgerModel$Wide", name := "result", desc := "(I)Z" } : Jvm.MethodName)) ∈ lw_all := lw_g (lw_at lw_m14 108 rfl) rfl
theorem q3493 : (Jvm.Cond.privateMethod ({ cls := "ResourceLedgerModel$Wide", name := "result", desc := "(I)Z" } : Jvm.MethodName)) ∈ lw_tbl := lw_at lw_m14 109 rfl
theorem q3494 : (Jvm.Cond.instanceMethod ({ cls := "ResourceLedgerModel$Wide", name := "result", desc := "(I)Z" } : Jvm.MethodName)) ∈ lw_all := lw_g (lw_at lw_m14 110 rfl) rfl
theorem q3495 : (Jvm.Cond.code ({ cls := "ResourceLedgerModel$Wide", name := "result", desc := "(I)Z" } : Jvm.MethodName) prog_33_method_4_code (3 : Nat) (Option.some Jvm.ClassFile.FieldType.boolean)) ∈ lw_all := lw_g (lw_at lw_m14 111 rfl) rfl
theorem q3496 : (Jvm.Cond.methodLink "ResourceLedgerModel$Wide" (21 : Nat) ({ cls := "ResourceLedgerModel$Wide", name := "four", desc := "([II)J" } : Jvm.MethodName)) ∈ lw_all := lw_g (lw_at lw_m14 112 rfl) rfl
theorem q3497 : (Jvm.Cond.static ({ cls := "ResourceLedgerModel$Wide", name := "four", desc := "([II)J" } : Jvm.MethodName)) ∈ lw_all := lw_g (lw_at lw_m14 113 rfl) rfl
theorem q3498 : (Jvm.Cond.code ({ cls := "ResourceLedgerModel$Wide", name := "four", desc := "([II)J" } : Jvm.MethodName) prog_33_method_3_code (2 : Nat) (Option.some Jvm.ClassFile.FieldType.long)) ∈ lw_all := lw_g (lw_at lw_m14 114 rfl) rfl
theorem q3499 : (Jvm.Cond.methodLink "ResourceLedgerModel$Wide" (32 : Nat) ({ cls := "ResourceLedgerModel$Wide", name := "isOf", desc := "(JJI)Z" } : Jvm.MethodName)) ∈ lw_all := lw_g (lw_at lw_m14 115 rfl) rfl
theorem q3500 : (Jvm.Cond.static ({ cls := "ResourceLedgerModel$Wide", name := "isOf", desc := "(JJI)Z" } : Jvm.MethodName)) ∈ lw_all := lw_g (lw_at lw_m14 116 rfl) rfl
theorem q3501 : (Jvm.Cond.code ({ cls := "ResourceLedgerModel$Wide", name := "isOf", desc := "(JJI)Z" } : Jvm.MethodName) prog_33_method_5_code (5 : Nat) (Option.some Jvm.ClassFile.FieldType.boolean)) ∈ lw_all := lw_g (lw_at lw_m14 117 rfl) rfl
theorem q3502 : (Jvm.Cond.methodLink "ResourceLedgerModel$Wide" (51 : Nat) ({ cls := "ResourceLedgerModel$Wide", name := "compare", desc := "(JJJJ)I" } : Jvm.MethodName)) ∈ lw_all := lw_g (lw_at lw_m14 118 rfl) rfl
theorem q3503 : (Jvm.Cond.static ({ cls := "ResourceLedgerModel$Wide", name := "compare", desc := "(JJJJ)I" } : Jvm.MethodName)) ∈ lw_all := lw_g (lw_at lw_m14 119 rfl) rfl
theorem q3504 : (Jvm.Cond.code ({ cls := "ResourceLedgerModel$Wide", name := "compare", desc := "(JJJJ)I" } : Jvm.MethodName) prog_33_method_6_code (8 : Nat) (Option.some Jvm.ClassFile.FieldType.int)) ∈ lw_all := lw_g (lw_at lw_m14 120 rfl) rfl
theorem q3505 : (Jvm.Cond.constantLong "ResourceLedgerModel$Wide" (38 : Nat) (-9223372036854775808 : Int64)) ∈ lw_all := lw_g (lw_at lw_m14 121 rfl) rfl
theorem q3506 : (Jvm.Cond.methodLink "ResourceLedgerModel$Wide" (55 : Nat) ({ cls := "ResourceLedgerModel$Wide", name := "subtract", desc := "(I)Z" } : Jvm.MethodName)) ∈ lw_all := lw_g (lw_at lw_m14 122 rfl) rfl
theorem q3507 : (Jvm.Cond.privateMethod ({ cls := "ResourceLedgerModel$Wide", name := "subtract", desc := "(I)Z" } : Jvm.MethodName)) ∈ lw_tbl := lw_at lw_m14 123 rfl
theorem q3508 : (Jvm.Cond.instanceMethod ({ cls := "ResourceLedgerModel$Wide", name := "subtract", desc := "(I)Z" } : Jvm.MethodName)) ∈ lw_all := lw_g (lw_at lw_m14 124 rfl) rfl
theorem q3509 : (Jvm.Cond.code ({ cls := "ResourceLedgerModel$Wide", name := "subtract", desc := "(I)Z" } : Jvm.MethodName) prog_33_method_10_code (5 : Nat) (Option.some Jvm.ClassFile.FieldType.boolean)) ∈ lw_all := lw_g (lw_at lw_m14 125 rfl) rfl
theorem q3510 : (Jvm.Cond.methodLink "ResourceLedgerModel$Wide" (58 : Nat) ({ cls := "ResourceLedgerModel$Wide", name := "multiply", desc := "(I)Z" } : Jvm.MethodName)) ∈ lw_all := lw_g (lw_at lw_m14 126 rfl) rfl
theorem q3511 : (Jvm.Cond.privateMethod ({ cls := "ResourceLedgerModel$Wide", name := "multiply", desc := "(I)Z" } : Jvm.MethodName)) ∈ lw_tbl := lw_at lw_m14 127 rfl
theorem q3512 : (Jvm.Cond.instanceMethod ({ cls := "ResourceLedgerModel$Wide", name := "multiply", desc := "(I)Z" } : Jvm.MethodName)) ∈ lw_all := lw_g (lw_at lw_m14 128 rfl) rfl
theorem q3513 : (Jvm.Cond.code ({ cls := "ResourceLedgerModel$Wide", name := "multiply", desc := "(I)Z" } : Jvm.MethodName) prog_33_method_11_code (8 : Nat) (Option.some Jvm.ClassFile.FieldType.boolean)) ∈ lw_all := lw_g (lw_at lw_m14 129 rfl) rfl
theorem q3514 : (Jvm.Cond.methodLink "ResourceLedgerModel$Wide" (61 : Nat) ({ cls := "ResourceLedgerModel$Wide", name := "divide", desc := "(ZI)Z" } : Jvm.MethodName)) ∈ lw_all := lw_g (lw_at lw_m14 130 rfl) rfl
theorem q3515 : (Jvm.Cond.privateMethod ({ cls := "ResourceLedgerModel$Wide", name := "divide", desc := "(ZI)Z" } : Jvm.MethodName)) ∈ lw_tbl := lw_at lw_m14 131 rfl
theorem q3516 : (Jvm.Cond.instanceMethod ({ cls := "ResourceLedgerModel$Wide", name := "divide", desc := "(ZI)Z" } : Jvm.MethodName)) ∈ lw_all := lw_g (lw_at lw_m14 132 rfl) rfl
theorem q3517 : (Jvm.Cond.code ({ cls := "ResourceLedgerModel$Wide", name := "divide", desc := "(ZI)Z" } : Jvm.MethodName) prog_33_method_12_code (24 : Nat) (Option.some Jvm.ClassFile.FieldType.boolean)) ∈ lw_all := lw_g (lw_at lw_m14 133 rfl) rfl
theorem in_X26 : ∀ w ∈ wsX260, w ∈ lw_all := lw_in wsX260 [2462, 2464, 2466, 2468, 2470] (by decide +kernel) (by decide +kernel)
end
section
-- ResourceLedgerModel$Digester
set_option maxRecDepth 100000
def RX27 : String := "ResourceLedgerModel$Digester"
def TX27 : u_T := fun k => match k with
  | 0 => ("ResourceLedgerModel$Digester", "message", "[B", true)
  | 1 => ("ResourceLedgerModel$Digester", "size", "I", false)
  | 2 => ("ResourceLedgerModel$Digester", "words", "[J", true)
  | _ => ("ResourceLedgerModel$Digester", "schedule", "[J", true)
def tyX27 : Nat → FieldType := fun k => match k with
  | 0 => .array .byte
  | 1 => .int
  | 2 => .array .long
  | _ => .array .long
abbrev wsX270 : List Cond := u_ws RX27 TX27 4
theorem nmX27 : ∀ a, a < 4 → ∀ b, b < 4 → a ≠ b → (TX27 a).2.1 ≠ (TX27 b).2.1 := by decide +kernel
theorem tyX27_ok : ∀ k, k < 4 → parseFieldDescriptor (TX27 k).2.2.1 = some (tyX27 k) := by decide +kernel
abbrev cX27_init : ByteArray := prog_28_method_1_code
def yX27_init : MethodName := ⟨RX27, "<init>", "()V"⟩
abbrev cX27_begin : ByteArray := prog_28_method_2_code
def yX27_begin : MethodName := ⟨RX27, "begin", "()V"⟩
abbrev cX27_add : ByteArray := prog_28_method_3_code
def yX27_add : MethodName := ⟨RX27, "add", "(I)V"⟩
abbrev cX27_end : ByteArray := prog_28_method_6_code
def yX27_end : MethodName := ⟨RX27, "end", "()V"⟩
abbrev cX27_addNumber : ByteArray := prog_28_method_4_code
def yX27_addNumber : MethodName := ⟨RX27, "addNumber", "(JI)V"⟩
abbrev cX27_block : ByteArray := prog_28_method_7_code
def yX27_block : MethodName := ⟨RX27, "block", "(I)V"⟩
abbrev cX27_turned : ByteArray := prog_28_method_5_code
def yX27_turned : MethodName := ⟨RX27, "turned", "(JI)J"⟩
abbrev cX27_byteOf : ByteArray := prog_28_method_9_code
def yX27_byteOf : MethodName := ⟨RX27, "byteOf", "(I)I"⟩
abbrev cX27_four : ByteArray := prog_28_method_8_code
def yX27_four : MethodName := ⟨RX27, "four", "(I)J"⟩
theorem q299 : (Jvm.Cond.initialized "ResourceLedgerModel$Digester") ∈ lw_all := lw_g (lw_at lw_m1 35 rfl) rfl
theorem q2474 : (Jvm.Cond.instantiable "ResourceLedgerModel$Digester" (4 : Nat)) ∈ lw_all := lw_g (lw_at lw_m10 50 rfl) rfl
theorem q2476 : (Jvm.Cond.instanceMethod ({ cls := "ResourceLedgerModel$Digester", name := "<init>", desc := "()V" } : Jvm.MethodName)) ∈ lw_all := lw_g (lw_at lw_m10 52 rfl) rfl
theorem q2477 : (Jvm.Cond.code ({ cls := "ResourceLedgerModel$Digester", name := "<init>", desc := "()V" } : Jvm.MethodName) prog_28_method_1_code (1 : Nat) (Option.none : Option Jvm.ClassFile.FieldType)) ∈ lw_all := lw_g (lw_at lw_m10 53 rfl) rfl
theorem q2478 : (Jvm.Cond.methodLink "ResourceLedgerModel$Digester" (1 : Nat) ({ cls := "java/lang/Object", name := "<init>", desc := "()V" } : Jvm.MethodName)) ∈ lw_all := lw_g (lw_at lw_m10 54 rfl) rfl
theorem q2479 : (Jvm.Cond.fieldLink "ResourceLedgerModel$Digester" (7 : Nat) "ResourceLedgerModel$Digester" "message" "[B") ∈ lw_all := lw_g (lw_at lw_m10 55 rfl) rfl
theorem q2481 : (Jvm.Cond.fieldLink "ResourceLedgerModel$Digester" (20 : Nat) "ResourceLedgerModel$Digester" "size" "I") ∈ lw_all := lw_g (lw_at lw_m10 57 rfl) rfl
theorem q2483 : (Jvm.Cond.fieldLink "ResourceLedgerModel$Digester" (13 : Nat) "ResourceLedgerModel$Digester" "words" "[J") ∈ lw_all := lw_g (lw_at lw_m10 59 rfl) rfl
theorem q2484 : (Jvm.Cond.fieldLink "ResourceLedgerModel$Digester" (17 : Nat) "ResourceLedgerModel$Digester" "schedule" "[J") ∈ lw_all := lw_g (lw_at lw_m10 60 rfl) rfl
theorem q2485 : (Jvm.Cond.laysFinal "ResourceLedgerModel$Digester" "ResourceLedgerModel$Digester" "message" "[B") ∈ lw_all := lw_g (lw_at lw_m10 61 rfl) rfl
theorem q2486 : (Jvm.Cond.soleField "ResourceLedgerModel$Digester" "message") ∈ lw_all := lw_g (lw_at lw_m10 62 rfl) rfl
theorem q2487 : (Jvm.Cond.lays "ResourceLedgerModel$Digester" "ResourceLedgerModel$Digester" "size" "I") ∈ lw_all := lw_g (lw_at lw_m10 63 rfl) rfl
theorem q2488 : (Jvm.Cond.soleField "ResourceLedgerModel$Digester" "size") ∈ lw_all := lw_g (lw_at lw_m10 64 rfl) rfl
theorem q2489 : (Jvm.Cond.laysFinal "ResourceLedgerModel$Digester" "ResourceLedgerModel$Digester" "words" "[J") ∈ lw_all := lw_g (lw_at lw_m10 65 rfl) rfl
theorem q2490 : (Jvm.Cond.soleField "ResourceLedgerModel$Digester" "words") ∈ lw_all := lw_g (lw_at lw_m10 66 rfl) rfl
theorem q2491 : (Jvm.Cond.laysFinal "ResourceLedgerModel$Digester" "ResourceLedgerModel$Digester" "schedule" "[J") ∈ lw_all := lw_g (lw_at lw_m10 67 rfl) rfl
theorem q2492 : (Jvm.Cond.soleField "ResourceLedgerModel$Digester" "schedule") ∈ lw_all := lw_g (lw_at lw_m10 68 rfl) rfl
theorem q2493 : (Jvm.Cond.superclass "ResourceLedgerModel$Digester" "java/lang/Object") ∈ lw_all := lw_g (lw_at lw_m10 69 rfl) rfl
theorem q3546 : (Jvm.Cond.instanceMethod ({ cls := "ResourceLedgerModel$Digester", name := "begin", desc := "()V" } : Jvm.MethodName)) ∈ lw_all := lw_g (lw_at lw_m14 162 rfl) rfl
theorem q3547 : (Jvm.Cond.selects "ResourceLedgerModel$Digester" ({ cls := "ResourceLedgerModel$Digester", name := "begin", desc := "()V" } : Jvm.MethodName) ({ cls := "ResourceLedgerModel$Digester", name := "begin", desc := "()V" } : Jvm.MethodName)) ∈ lw_all := lw_g (lw_at lw_m14 163 rfl) rfl
theorem q3548 : (Jvm.Cond.code ({ cls := "ResourceLedgerModel$Digester", name := "begin", desc := "()V" } : Jvm.MethodName) prog_28_method_2_code (1 : Nat) (Option.none : Option Jvm.ClassFile.FieldType)) ∈ lw_all := lw_g (lw_at lw_m14 164 rfl) rfl
theorem q3550 : (Jvm.Cond.instanceMethod ({ cls := "ResourceLedgerModel$Digester", name := "add", desc := "(I)V" } : Jvm.MethodName)) ∈ lw_all := lw_g (lw_at lw_m14 166 rfl) rfl
theorem q3551 : (Jvm.Cond.selects "ResourceLedgerModel$Digester" ({ cls := "ResourceLedgerModel$Digester", name := "add", desc := "(I)V" } : Jvm.MethodName) ({ cls := "ResourceLedgerModel$Digester", name := "add", desc := "(I)V" } : Jvm.MethodName)) ∈ lw_all := lw_g (lw_at lw_m14 167 rfl) rfl
theorem q3552 : (Jvm.Cond.code ({ cls := "ResourceLedgerModel$Digester", name := "add", desc := "(I)V" } : Jvm.MethodName) prog_28_method_3_code (2 : Nat) (Option.none : Option Jvm.ClassFile.FieldType)) ∈ lw_all := lw_g (lw_at lw_m14 168 rfl) rfl
theorem q3554 : (Jvm.Cond.instanceMethod ({ cls := "ResourceLedgerModel$Digester", name := "end", desc := "()V" } : Jvm.MethodName)) ∈ lw_all := lw_g (lw_at lw_m14 170 rfl) rfl
theorem q3555 : (Jvm.Cond.selects "ResourceLedgerModel$Digester" ({ cls := "ResourceLedgerModel$Digester", name := "end", desc := "()V" } : Jvm.MethodName) ({ cls := "ResourceLedgerModel$Digester", name := "end", desc := "()V" } : Jvm.MethodName)) ∈ lw_all := lw_g (lw_at lw_m14 171 rfl) rfl
theorem q3556 : (Jvm.Cond.code ({ cls := "ResourceLedgerModel$Digester", name := "end", desc := "()V" } : Jvm.MethodName) prog_28_method_6_code (3 : Nat) (Option.none : Option Jvm.ClassFile.FieldType)) ∈ lw_all := lw_g (lw_at lw_m14 172 rfl) rfl
theorem q3557 : (Jvm.Cond.constantLong "ResourceLedgerModel$Digester" (30 : Nat) (1779033703 : Int64)) ∈ lw_all := lw_g (lw_at lw_m14 173 rfl) rfl
theorem q3558 : (Jvm.Cond.constantLong "ResourceLedgerModel$Digester" (32 : Nat) (3144134277 : Int64)) ∈ lw_all := lw_g (lw_at lw_m14 174 rfl) rfl
theorem q3559 : (Jvm.Cond.constantLong "ResourceLedgerModel$Digester" (34 : Nat) (1013904242 : Int64)) ∈ lw_all := lw_g (lw_at lw_m14 175 rfl) rfl
theorem q3560 : (Jvm.Cond.constantLong "ResourceLedgerModel$Digester" (36 : Nat) (2773480762 : Int64)) ∈ lw_all := lw_g (lw_at lw_m14 176 rfl) rfl
theorem q3561 : (Jvm.Cond.constantLong "ResourceLedgerModel$Digester" (38 : Nat) (1359893119 : Int64)) ∈ lw_all := lw_g (lw_at lw_m14 177 rfl) rfl
theorem q3562 : (Jvm.Cond.constantLong "ResourceLedgerModel$Digester" (40 : Nat) (2600822924 : Int64)) ∈ lw_all := lw_g (lw_at lw_m14 178 rfl) rfl
theorem q3563 : (Jvm.Cond.constantLong "ResourceLedgerModel$Digester" (42 : Nat) (528734635 : Int64)) ∈ lw_all := lw_g (lw_at lw_m14 179 rfl) rfl
theorem q3564 : (Jvm.Cond.constantLong "ResourceLedgerModel$Digester" (44 : Nat) (1541459225 : Int64)) ∈ lw_all := lw_g (lw_at lw_m14 180 rfl) rfl
theorem q3565 : (Jvm.Cond.methodLink "ResourceLedgerModel$Digester" (24 : Nat) ({ cls := "ResourceLedgerModel$Digester", name := "add", desc := "(I)V" } : Jvm.MethodName)) ∈ lw_all := lw_g (lw_at lw_m14 181 rfl) rfl
theorem q3566 : (Jvm.Cond.constantLong "ResourceLedgerModel$Digester" (46 : Nat) (8 : Int64)) ∈ lw_all := lw_g (lw_at lw_m14 182 rfl) rfl
theorem q3567 : (Jvm.Cond.methodLink "ResourceLedgerModel$Digester" (48 : Nat) ({ cls := "ResourceLedgerModel$Digester", name := "addNumber", desc := "(JI)V" } : Jvm.MethodName)) ∈ lw_all := lw_g (lw_at lw_m14 183 rfl) rfl
theorem q3568 : (Jvm.Cond.instanceMethod ({ cls := "ResourceLedgerModel$Digester", name := "addNumber", desc := "(JI)V" } : Jvm.MethodName)) ∈ lw_all := lw_g (lw_at lw_m14 184 rfl) rfl
theorem q3569 : (Jvm.Cond.selects "ResourceLedgerModel$Digester" ({ cls := "ResourceLedgerModel$Digester", name := "addNumber", desc := "(JI)V" } : Jvm.MethodName) ({ cls := "ResourceLedgerModel$Digester", name := "addNumber", desc := "(JI)V" } : Jvm.MethodName)) ∈ lw_all := lw_g (lw_at lw_m14 185 rfl) rfl
theorem q3570 : (Jvm.Cond.code ({ cls := "ResourceLedgerModel$Digester", name := "addNumber", desc := "(JI)V" } : Jvm.MethodName) prog_28_method_4_code (5 : Nat) (Option.none : Option Jvm.ClassFile.FieldType)) ∈ lw_all := lw_g (lw_at lw_m14 186 rfl) rfl
theorem q3571 : (Jvm.Cond.methodLink "ResourceLedgerModel$Digester" (52 : Nat) ({ cls := "ResourceLedgerModel$Digester", name := "block", desc := "(I)V" } : Jvm.MethodName)) ∈ lw_all := lw_g (lw_at lw_m14 187 rfl) rfl
theorem q3572 : (Jvm.Cond.privateMethod ({ cls := "ResourceLedgerModel$Digester", name := "block", desc := "(I)V" } : Jvm.MethodName)) ∈ lw_tbl := lw_at lw_m14 188 rfl
theorem q3573 : (Jvm.Cond.instanceMethod ({ cls := "ResourceLedgerModel$Digester", name := "block", desc := "(I)V" } : Jvm.MethodName)) ∈ lw_all := lw_g (lw_at lw_m14 189 rfl) rfl
theorem q3574 : (Jvm.Cond.code ({ cls := "ResourceLedgerModel$Digester", name := "block", desc := "(I)V" } : Jvm.MethodName) prog_28_method_7_code (23 : Nat) (Option.none : Option Jvm.ClassFile.FieldType)) ∈ lw_all := lw_g (lw_at lw_m14 190 rfl) rfl
theorem q3575 : (Jvm.Cond.constantLong "ResourceLedgerModel$Digester" (55 : Nat) (256 : Int64)) ∈ lw_all := lw_g (lw_at lw_m14 191 rfl) rfl
theorem q3576 : (Jvm.Cond.methodLink "ResourceLedgerModel$Digester" (57 : Nat) ({ cls := "ResourceLedgerModel$Digester", name := "turned", desc := "(JI)J" } : Jvm.MethodName)) ∈ lw_all := lw_g (lw_at lw_m14 192 rfl) rfl
theorem q3577 : (Jvm.Cond.static ({ cls := "ResourceLedgerModel$Digester", name := "turned", desc := "(JI)J" } : Jvm.MethodName)) ∈ lw_all := lw_g (lw_at lw_m14 193 rfl) rfl
theorem q3578 : (Jvm.Cond.code ({ cls := "ResourceLedgerModel$Digester", name := "turned", desc := "(JI)J" } : Jvm.MethodName) prog_28_method_5_code (3 : Nat) (Option.some Jvm.ClassFile.FieldType.long)) ∈ lw_all := lw_g (lw_at lw_m14 194 rfl) rfl
theorem q3579 : (Jvm.Cond.constantLong "ResourceLedgerModel$Digester" (28 : Nat) (4294967295 : Int64)) ∈ lw_all := lw_g (lw_at lw_m14 195 rfl) rfl
theorem q3580 : (Jvm.Cond.fieldLink "ResourceLedgerModel$Digester" (61 : Nat) "ResourceLedgerModel$Digester" "CONSTANTS" "[J") ∈ lw_all := lw_g (lw_at lw_m14 196 rfl) rfl
theorem q3581 : (Jvm.Cond.laysStatic "ResourceLedgerModel$Digester" "CONSTANTS" "[J") ∈ lw_tbl := lw_at lw_m14 197 rfl
theorem q3583 : (Jvm.Cond.instanceMethod ({ cls := "ResourceLedgerModel$Digester", name := "byteOf", desc := "(I)I" } : Jvm.MethodName)) ∈ lw_all := lw_g (lw_at lw_m14 199 rfl) rfl
theorem q3584 : (Jvm.Cond.selects "ResourceLedgerModel$Digester" ({ cls := "ResourceLedgerModel$Digester", name := "byteOf", desc := "(I)I" } : Jvm.MethodName) ({ cls := "ResourceLedgerModel$Digester", name := "byteOf", desc := "(I)I" } : Jvm.MethodName)) ∈ lw_all := lw_g (lw_at lw_m14 200 rfl) rfl
theorem q3585 : (Jvm.Cond.code ({ cls := "ResourceLedgerModel$Digester", name := "byteOf", desc := "(I)I" } : Jvm.MethodName) prog_28_method_9_code (2 : Nat) (Option.some Jvm.ClassFile.FieldType.int)) ∈ lw_all := lw_g (lw_at lw_m14 201 rfl) rfl
theorem q3586 : (Jvm.Cond.constantLong "ResourceLedgerModel$Digester" (64 : Nat) (255 : Int64)) ∈ lw_all := lw_g (lw_at lw_m14 202 rfl) rfl
theorem q3678 : (Jvm.Cond.instanceMethod ({ cls := "ResourceLedgerModel$Digester", name := "four", desc := "(I)J" } : Jvm.MethodName)) ∈ lw_all := lw_g (lw_at lw_m15 54 rfl) rfl
theorem q3679 : (Jvm.Cond.selects "ResourceLedgerModel$Digester" ({ cls := "ResourceLedgerModel$Digester", name := "four", desc := "(I)J" } : Jvm.MethodName) ({ cls := "ResourceLedgerModel$Digester", name := "four", desc := "(I)J" } : Jvm.MethodName)) ∈ lw_all := lw_g (lw_at lw_m15 55 rfl) rfl
theorem q3680 : (Jvm.Cond.code ({ cls := "ResourceLedgerModel$Digester", name := "four", desc := "(I)J" } : Jvm.MethodName) prog_28_method_8_code (2 : Nat) (Option.some Jvm.ClassFile.FieldType.long)) ∈ lw_all := lw_g (lw_at lw_m15 56 rfl) rfl
theorem in_X27 : ∀ w ∈ wsX270, w ∈ lw_all := lw_in wsX270 [2485, 2487, 2489, 2491] (by decide +kernel) (by decide +kernel)
end
section
-- ResourceLedgerModel$Roots
set_option maxRecDepth 100000
def RX28 : String := "ResourceLedgerModel$Roots"
def TX28 : u_T := fun k => match k with
  | 0 => ("ResourceLedgerModel$Roots", "keys", "[J", true)
  | 1 => ("ResourceLedgerModel$Roots", "values", "[J", true)
  | 2 => ("ResourceLedgerModel$Roots", "sorts", "[I", true)
  | 3 => ("ResourceLedgerModel$Roots", "addresses", "[J", true)
  | 4 => ("ResourceLedgerModel$Roots", "kinds", "[I", true)
  | 5 => ("ResourceLedgerModel$Roots", "count", "I", false)
  | 6 => ("ResourceLedgerModel$Roots", "hashes", "[J", true)
  | 7 => ("ResourceLedgerModel$Roots", "begins", "[I", true)
  | 8 => ("ResourceLedgerModel$Roots", "sizes", "[I", true)
  | 9 => ("ResourceLedgerModel$Roots", "nodes", "I", false)
  | _ => ("ResourceLedgerModel$Roots", "digester", "LResourceLedgerModel$Digester;", true)
def tyX28 : Nat → FieldType := fun k => match k with
  | 0 => .array .long
  | 1 => .array .long
  | 2 => .array .int
  | 3 => .array .long
  | 4 => .array .int
  | 5 => .int
  | 6 => .array .long
  | 7 => .array .int
  | 8 => .array .int
  | 9 => .int
  | _ => .object "ResourceLedgerModel$Digester"
abbrev wsX280 : List Cond := u_ws RX28 TX28 11
theorem nmX28 : ∀ a, a < 11 → ∀ b, b < 11 → a ≠ b → (TX28 a).2.1 ≠ (TX28 b).2.1 := by decide +kernel
theorem tyX28_ok : ∀ k, k < 11 → parseFieldDescriptor (TX28 k).2.2.1 = some (tyX28 k) := by decide +kernel
abbrev cX28_init : ByteArray := prog_30_method_1_code
def yX28_init : MethodName := ⟨RX28, "<init>", "(LResourceLedgerModel$Digester;)V"⟩
abbrev cX28_begin : ByteArray := prog_30_method_2_code
def yX28_begin : MethodName := ⟨RX28, "begin", "()V"⟩
abbrev cX28_put : ByteArray := prog_30_method_7_code
def yX28_put : MethodName := ⟨RX28, "put", "([J[JIJI)V"⟩
abbrev cX28_isBehind : ByteArray := prog_30_method_4_code
def yX28_isBehind : MethodName := ⟨RX28, "isBehind", "(I[J)Z"⟩
abbrev cX28_order : ByteArray := prog_30_method_3_code
def yX28_order : MethodName := ⟨RX28, "order", "(JJ)I"⟩
abbrev cX28_isAt : ByteArray := prog_30_method_5_code
def yX28_isAt : MethodName := ⟨RX28, "isAt", "(I[J)Z"⟩
abbrev cX28_isLess : ByteArray := prog_30_method_6_code
def yX28_isLess : MethodName := ⟨RX28, "isLess", "(IIJI)Z"⟩
abbrev cX28_keep : ByteArray := prog_30_method_8_code
def yX28_keep : MethodName := ⟨RX28, "keep", "(I[J[JIJI)V"⟩
abbrev cX28_all : ByteArray := prog_30_method_12_code
def yX28_all : MethodName := ⟨RX28, "all", "()V"⟩
abbrev cX28_add : ByteArray := prog_30_method_9_code
def yX28_add : MethodName := ⟨RX28, "add", "([JIZ)V"⟩
abbrev cX28_keepHash : ByteArray := prog_30_method_10_code
def yX28_keepHash : MethodName := ⟨RX28, "keepHash", "(I)V"⟩
abbrev cX28_parting : ByteArray := prog_30_method_13_code
def yX28_parting : MethodName := ⟨RX28, "parting", "(I)I"⟩
abbrev cX28_level : ByteArray := prog_30_method_14_code
def yX28_level : MethodName := ⟨RX28, "level", "(I)V"⟩
abbrev cX28_agree : ByteArray := prog_30_method_11_code
def yX28_agree : MethodName := ⟨RX28, "agree", "(III)Z"⟩
abbrev cX28_get : ByteArray := prog_30_method_15_code
def yX28_get : MethodName := ⟨RX28, "get", "(I)J"⟩
theorem q300 : (Jvm.Cond.initialized "ResourceLedgerModel$Roots") ∈ lw_all := lw_g (lw_at lw_m1 36 rfl) rfl
theorem q2495 : (Jvm.Cond.instantiable "ResourceLedgerModel$Roots" (11 : Nat)) ∈ lw_all := lw_g (lw_at lw_m10 71 rfl) rfl
theorem q2497 : (Jvm.Cond.instanceMethod ({ cls := "ResourceLedgerModel$Roots", name := "<init>", desc := "(LResourceLedgerModel$Digester;)V" } : Jvm.MethodName)) ∈ lw_all := lw_g (lw_at lw_m10 73 rfl) rfl
theorem q2498 : (Jvm.Cond.code ({ cls := "ResourceLedgerModel$Roots", name := "<init>", desc := "(LResourceLedgerModel$Digester;)V" } : Jvm.MethodName) prog_30_method_1_code (2 : Nat) (Option.none : Option Jvm.ClassFile.FieldType)) ∈ lw_all := lw_g (lw_at lw_m10 74 rfl) rfl
theorem q2499 : (Jvm.Cond.methodLink "ResourceLedgerModel$Roots" (1 : Nat) ({ cls := "java/lang/Object", name := "<init>", desc := "()V" } : Jvm.MethodName)) ∈ lw_all := lw_g (lw_at lw_m10 75 rfl) rfl
theorem q2500 : (Jvm.Cond.fieldLink "ResourceLedgerModel$Roots" (7 : Nat) "ResourceLedgerModel$Roots" "keys" "[J") ∈ lw_all := lw_g (lw_at lw_m10 76 rfl) rfl
theorem q2501 : (Jvm.Cond.fieldLink "ResourceLedgerModel$Roots" (13 : Nat) "ResourceLedgerModel$Roots" "values" "[J") ∈ lw_all := lw_g (lw_at lw_m10 77 rfl) rfl
theorem q2502 : (Jvm.Cond.fieldLink "ResourceLedgerModel$Roots" (16 : Nat) "ResourceLedgerModel$Roots" "sorts" "[I") ∈ lw_all := lw_g (lw_at lw_m10 78 rfl) rfl
theorem q2503 : (Jvm.Cond.fieldLink "ResourceLedgerModel$Roots" (20 : Nat) "ResourceLedgerModel$Roots" "addresses" "[J") ∈ lw_all := lw_g (lw_at lw_m10 79 rfl) rfl
theorem q2504 : (Jvm.Cond.fieldLink "ResourceLedgerModel$Roots" (23 : Nat) "ResourceLedgerModel$Roots" "kinds" "[I") ∈ lw_all := lw_g (lw_at lw_m10 80 rfl) rfl
theorem q2505 : (Jvm.Cond.fieldLink "ResourceLedgerModel$Roots" (39 : Nat) "ResourceLedgerModel$Roots" "count" "I") ∈ lw_all := lw_g (lw_at lw_m10 81 rfl) rfl
theorem q2506 : (Jvm.Cond.fieldLink "ResourceLedgerModel$Roots" (26 : Nat) "ResourceLedgerModel$Roots" "hashes" "[J") ∈ lw_all := lw_g (lw_at lw_m10 82 rfl) rfl
theorem q2507 : (Jvm.Cond.fieldLink "ResourceLedgerModel$Roots" (29 : Nat) "ResourceLedgerModel$Roots" "begins" "[I") ∈ lw_all := lw_g (lw_at lw_m10 83 rfl) rfl
theorem q2508 : (Jvm.Cond.fieldLink "ResourceLedgerModel$Roots" (32 : Nat) "ResourceLedgerModel$Roots" "sizes" "[I") ∈ lw_all := lw_g (lw_at lw_m10 84 rfl) rfl
theorem q2509 : (Jvm.Cond.fieldLink "ResourceLedgerModel$Roots" (79 : Nat) "ResourceLedgerModel$Roots" "nodes" "I") ∈ lw_all := lw_g (lw_at lw_m10 85 rfl) rfl
theorem q2510 : (Jvm.Cond.fieldLink "ResourceLedgerModel$Roots" (35 : Nat) "ResourceLedgerModel$Roots" "digester" "LResourceLedgerModel$Digester;") ∈ lw_all := lw_g (lw_at lw_m10 86 rfl) rfl
theorem q2511 : (Jvm.Cond.laysFinal "ResourceLedgerModel$Roots" "ResourceLedgerModel$Roots" "keys" "[J") ∈ lw_all := lw_g (lw_at lw_m10 87 rfl) rfl
theorem q2512 : (Jvm.Cond.soleField "ResourceLedgerModel$Roots" "keys") ∈ lw_all := lw_g (lw_at lw_m10 88 rfl) rfl
theorem q2513 : (Jvm.Cond.laysFinal "ResourceLedgerModel$Roots" "ResourceLedgerModel$Roots" "values" "[J") ∈ lw_all := lw_g (lw_at lw_m10 89 rfl) rfl
theorem q2514 : (Jvm.Cond.soleField "ResourceLedgerModel$Roots" "values") ∈ lw_all := lw_g (lw_at lw_m10 90 rfl) rfl
theorem q2515 : (Jvm.Cond.laysFinal "ResourceLedgerModel$Roots" "ResourceLedgerModel$Roots" "sorts" "[I") ∈ lw_all := lw_g (lw_at lw_m10 91 rfl) rfl
theorem q2516 : (Jvm.Cond.soleField "ResourceLedgerModel$Roots" "sorts") ∈ lw_all := lw_g (lw_at lw_m10 92 rfl) rfl
theorem q2517 : (Jvm.Cond.laysFinal "ResourceLedgerModel$Roots" "ResourceLedgerModel$Roots" "addresses" "[J") ∈ lw_all := lw_g (lw_at lw_m10 93 rfl) rfl
theorem q2518 : (Jvm.Cond.soleField "ResourceLedgerModel$Roots" "addresses") ∈ lw_all := lw_g (lw_at lw_m10 94 rfl) rfl
theorem q2519 : (Jvm.Cond.laysFinal "ResourceLedgerModel$Roots" "ResourceLedgerModel$Roots" "kinds" "[I") ∈ lw_all := lw_g (lw_at lw_m10 95 rfl) rfl
theorem q2520 : (Jvm.Cond.soleField "ResourceLedgerModel$Roots" "kinds") ∈ lw_all := lw_g (lw_at lw_m10 96 rfl) rfl
theorem q2521 : (Jvm.Cond.lays "ResourceLedgerModel$Roots" "ResourceLedgerModel$Roots" "count" "I") ∈ lw_all := lw_g (lw_at lw_m10 97 rfl) rfl
theorem q2522 : (Jvm.Cond.soleField "ResourceLedgerModel$Roots" "count") ∈ lw_all := lw_g (lw_at lw_m10 98 rfl) rfl
theorem q2523 : (Jvm.Cond.laysFinal "ResourceLedgerModel$Roots" "ResourceLedgerModel$Roots" "hashes" "[J") ∈ lw_all := lw_g (lw_at lw_m10 99 rfl) rfl
theorem q2524 : (Jvm.Cond.soleField "ResourceLedgerModel$Roots" "hashes") ∈ lw_all := lw_g (lw_at lw_m10 100 rfl) rfl
theorem q2525 : (Jvm.Cond.laysFinal "ResourceLedgerModel$Roots" "ResourceLedgerModel$Roots" "begins" "[I") ∈ lw_all := lw_g (lw_at lw_m10 101 rfl) rfl
theorem q2526 : (Jvm.Cond.soleField "ResourceLedgerModel$Roots" "begins") ∈ lw_all := lw_g (lw_at lw_m10 102 rfl) rfl
theorem q2527 : (Jvm.Cond.laysFinal "ResourceLedgerModel$Roots" "ResourceLedgerModel$Roots" "sizes" "[I") ∈ lw_all := lw_g (lw_at lw_m10 103 rfl) rfl
theorem q2528 : (Jvm.Cond.soleField "ResourceLedgerModel$Roots" "sizes") ∈ lw_all := lw_g (lw_at lw_m10 104 rfl) rfl
theorem q2529 : (Jvm.Cond.lays "ResourceLedgerModel$Roots" "ResourceLedgerModel$Roots" "nodes" "I") ∈ lw_all := lw_g (lw_at lw_m10 105 rfl) rfl
theorem q2530 : (Jvm.Cond.soleField "ResourceLedgerModel$Roots" "nodes") ∈ lw_all := lw_g (lw_at lw_m10 106 rfl) rfl
theorem q2531 : (Jvm.Cond.laysFinal "ResourceLedgerModel$Roots" "ResourceLedgerModel$Roots" "digester" "LResourceLedgerModel$Digester;") ∈ lw_all := lw_g (lw_at lw_m10 107 rfl) rfl
theorem q2532 : (Jvm.Cond.soleField "ResourceLedgerModel$Roots" "digester") ∈ lw_all := lw_g (lw_at lw_m10 108 rfl) rfl
theorem q2533 : (Jvm.Cond.superclass "ResourceLedgerModel$Roots" "java/lang/Object") ∈ lw_all := lw_g (lw_at lw_m10 109 rfl) rfl
theorem q3670 : (Jvm.Cond.instanceMethod ({ cls := "ResourceLedgerModel$Roots", name := "begin", desc := "()V" } : Jvm.MethodName)) ∈ lw_all := lw_g (lw_at lw_m15 46 rfl) rfl
theorem q3671 : (Jvm.Cond.selects "ResourceLedgerModel$Roots" ({ cls := "ResourceLedgerModel$Roots", name := "begin", desc := "()V" } : Jvm.MethodName) ({ cls := "ResourceLedgerModel$Roots", name := "begin", desc := "()V" } : Jvm.MethodName)) ∈ lw_all := lw_g (lw_at lw_m15 47 rfl) rfl
theorem q3672 : (Jvm.Cond.code ({ cls := "ResourceLedgerModel$Roots", name := "begin", desc := "()V" } : Jvm.MethodName) prog_30_method_2_code (1 : Nat) (Option.none : Option Jvm.ClassFile.FieldType)) ∈ lw_all := lw_g (lw_at lw_m15 48 rfl) rfl
theorem q3682 : (Jvm.Cond.instanceMethod ({ cls := "ResourceLedgerModel$Roots", name := "put", desc := "([J[JIJI)V" } : Jvm.MethodName)) ∈ lw_all := lw_g (lw_at lw_m15 58 rfl) rfl
theorem q3683 : (Jvm.Cond.selects "ResourceLedgerModel$Roots" ({ cls := "ResourceLedgerModel$Roots", name := "put", desc := "([J[JIJI)V" } : Jvm.MethodName) ({ cls := "ResourceLedgerModel$Roots", name := "put", desc := "([J[JIJI)V" } : Jvm.MethodName)) ∈ lw_all := lw_g (lw_at lw_m15 59 rfl) rfl
theorem q3684 : (Jvm.Cond.code ({ cls := "ResourceLedgerModel$Roots", name := "put", desc := "([J[JIJI)V" } : Jvm.MethodName) prog_30_method_7_code (10 : Nat) (Option.none : Option Jvm.ClassFile.FieldType)) ∈ lw_all := lw_g (lw_at lw_m15 60 rfl) rfl
theorem q3685 : (Jvm.Cond.methodLink "ResourceLedgerModel$Roots" (51 : Nat) ({ cls := "ResourceLedgerModel$Roots", name := "isBehind", desc := "(I[J)Z" } : Jvm.MethodName)) ∈ lw_all := lw_g (lw_at lw_m15 61 rfl) rfl
theorem q3686 : (Jvm.Cond.privateMethod ({ cls := "ResourceLedgerModel$Roots", name := "isBehind", desc := "(I[J)Z" } : Jvm.MethodName)) ∈ lw_tbl := lw_at lw_m15 62 rfl
theorem q3687 : (Jvm.Cond.instanceMethod ({ cls := "ResourceLedgerModel$Roots", name := "isBehind", desc := "(I[J)Z" } : Jvm.MethodName)) ∈ lw_all := lw_g (lw_at lw_m15 63 rfl) rfl
theorem q3688 : (Jvm.Cond.code ({ cls := "ResourceLedgerModel$Roots", name := "isBehind", desc := "(I[J)Z" } : Jvm.MethodName) prog_30_method_4_code (5 : Nat) (Option.some Jvm.ClassFile.FieldType.boolean)) ∈ lw_all := lw_g (lw_at lw_m15 64 rfl) rfl
theorem q3689 : (Jvm.Cond.methodLink "ResourceLedgerModel$Roots" (47 : Nat) ({ cls := "ResourceLedgerModel$Roots", name := "order", desc := "(JJ)I" } : Jvm.MethodName)) ∈ lw_all := lw_g (lw_at lw_m15 65 rfl) rfl
theorem q3690 : (Jvm.Cond.static ({ cls := "ResourceLedgerModel$Roots", name := "order", desc := "(JJ)I" } : Jvm.MethodName)) ∈ lw_all := lw_g (lw_at lw_m15 66 rfl) rfl
theorem q3691 : (Jvm.Cond.code ({ cls := "ResourceLedgerModel$Roots", name := "order", desc := "(JJ)I" } : Jvm.MethodName) prog_30_method_3_code (4 : Nat) (Option.some Jvm.ClassFile.FieldType.int)) ∈ lw_all := lw_g (lw_at lw_m15 67 rfl) rfl
theorem q3692 : (Jvm.Cond.constantLong "ResourceLedgerModel$Roots" (45 : Nat) (-9223372036854775808 : Int64)) ∈ lw_all := lw_g (lw_at lw_m15 68 rfl) rfl
theorem q3693 : (Jvm.Cond.methodLink "ResourceLedgerModel$Roots" (55 : Nat) ({ cls := "ResourceLedgerModel$Roots", name := "isAt", desc := "(I[J)Z" } : Jvm.MethodName)) ∈ lw_all := lw_g (lw_at lw_m15 69 rfl) rfl
theorem q3694 : (Jvm.Cond.privateMethod ({ cls := "ResourceLedgerModel$Roots", name := "isAt", desc := "(I[J)Z" } : Jvm.MethodName)) ∈ lw_tbl := lw_at lw_m15 70 rfl
theorem q3695 : (Jvm.Cond.instanceMethod ({ cls := "ResourceLedgerModel$Roots", name := "isAt", desc := "(I[J)Z" } : Jvm.MethodName)) ∈ lw_all := lw_g (lw_at lw_m15 71 rfl) rfl
theorem q3696 : (Jvm.Cond.code ({ cls := "ResourceLedgerModel$Roots", name := "isAt", desc := "(I[J)Z" } : Jvm.MethodName) prog_30_method_5_code (5 : Nat) (Option.some Jvm.ClassFile.FieldType.boolean)) ∈ lw_all := lw_g (lw_at lw_m15 72 rfl) rfl
theorem q3697 : (Jvm.Cond.methodLink "ResourceLedgerModel$Roots" (58 : Nat) ({ cls := "ResourceLedgerModel$Roots", name := "isLess", desc := "(IIJI)Z" } : Jvm.MethodName)) ∈ lw_all := lw_g (lw_at lw_m15 73 rfl) rfl
theorem q3698 : (Jvm.Cond.privateMethod ({ cls := "ResourceLedgerModel$Roots", name := "isLess", desc := "(IIJI)Z" } : Jvm.MethodName)) ∈ lw_tbl := lw_at lw_m15 74 rfl
theorem q3699 : (Jvm.Cond.instanceMethod ({ cls := "ResourceLedgerModel$Roots", name := "isLess", desc := "(IIJI)Z" } : Jvm.MethodName)) ∈ lw_all := lw_g (lw_at lw_m15 75 rfl) rfl
theorem q3700 : (Jvm.Cond.code ({ cls := "ResourceLedgerModel$Roots", name := "isLess", desc := "(IIJI)Z" } : Jvm.MethodName) prog_30_method_6_code (6 : Nat) (Option.some Jvm.ClassFile.FieldType.boolean)) ∈ lw_all := lw_g (lw_at lw_m15 76 rfl) rfl
theorem q3701 : (Jvm.Cond.methodLink "ResourceLedgerModel$Roots" (62 : Nat) ({ cls := "ResourceLedgerModel$Roots", name := "keep", desc := "(I[J[JIJI)V" } : Jvm.MethodName)) ∈ lw_all := lw_g (lw_at lw_m15 77 rfl) rfl
theorem q3702 : (Jvm.Cond.privateMethod ({ cls := "ResourceLedgerModel$Roots", name := "keep", desc := "(I[J[JIJI)V" } : Jvm.MethodName)) ∈ lw_tbl := lw_at lw_m15 78 rfl
theorem q3703 : (Jvm.Cond.instanceMethod ({ cls := "ResourceLedgerModel$Roots", name := "keep", desc := "(I[J[JIJI)V" } : Jvm.MethodName)) ∈ lw_all := lw_g (lw_at lw_m15 79 rfl) rfl
theorem q3704 : (Jvm.Cond.code ({ cls := "ResourceLedgerModel$Roots", name := "keep", desc := "(I[J[JIJI)V" } : Jvm.MethodName) prog_30_method_8_code (9 : Nat) (Option.none : Option Jvm.ClassFile.FieldType)) ∈ lw_all := lw_g (lw_at lw_m15 80 rfl) rfl
theorem q3706 : (Jvm.Cond.instanceMethod ({ cls := "ResourceLedgerModel$Roots", name := "all", desc := "()V" } : Jvm.MethodName)) ∈ lw_all := lw_g (lw_at lw_m15 82 rfl) rfl
theorem q3707 : (Jvm.Cond.selects "ResourceLedgerModel$Roots" ({ cls := "ResourceLedgerModel$Roots", name := "all", desc := "()V" } : Jvm.MethodName) ({ cls := "ResourceLedgerModel$Roots", name := "all", desc := "()V" } : Jvm.MethodName)) ∈ lw_all := lw_g (lw_at lw_m15 83 rfl) rfl
theorem q3708 : (Jvm.Cond.code ({ cls := "ResourceLedgerModel$Roots", name := "all", desc := "()V" } : Jvm.MethodName) prog_30_method_12_code (3 : Nat) (Option.none : Option Jvm.ClassFile.FieldType)) ∈ lw_all := lw_g (lw_at lw_m15 84 rfl) rfl
theorem q3709 : (Jvm.Cond.methodLink "ResourceLedgerModel$Roots" (82 : Nat) ({ cls := "ResourceLedgerModel$Digester", name := "begin", desc := "()V" } : Jvm.MethodName)) ∈ lw_all := lw_g (lw_at lw_m15 85 rfl) rfl
theorem q3710 : (Jvm.Cond.methodLink "ResourceLedgerModel$Roots" (85 : Nat) ({ cls := "ResourceLedgerModel$Digester", name := "add", desc := "(I)V" } : Jvm.MethodName)) ∈ lw_all := lw_g (lw_at lw_m15 86 rfl) rfl
theorem q3711 : (Jvm.Cond.methodLink "ResourceLedgerModel$Roots" (89 : Nat) ({ cls := "ResourceLedgerModel$Roots", name := "add", desc := "([JIZ)V" } : Jvm.MethodName)) ∈ lw_all := lw_g (lw_at lw_m15 87 rfl) rfl
theorem q3712 : (Jvm.Cond.privateMethod ({ cls := "ResourceLedgerModel$Roots", name := "add", desc := "([JIZ)V" } : Jvm.MethodName)) ∈ lw_tbl := lw_at lw_m15 88 rfl
theorem q3713 : (Jvm.Cond.instanceMethod ({ cls := "ResourceLedgerModel$Roots", name := "add", desc := "([JIZ)V" } : Jvm.MethodName)) ∈ lw_all := lw_g (lw_at lw_m15 89 rfl) rfl
theorem q3714 : (Jvm.Cond.code ({ cls := "ResourceLedgerModel$Roots", name := "add", desc := "([JIZ)V" } : Jvm.MethodName) prog_30_method_9_code (5 : Nat) (Option.none : Option Jvm.ClassFile.FieldType)) ∈ lw_all := lw_g (lw_at lw_m15 90 rfl) rfl
theorem q3715 : (Jvm.Cond.methodLink "ResourceLedgerModel$Roots" (66 : Nat) ({ cls := "ResourceLedgerModel$Digester", name := "addNumber", desc := "(JI)V" } : Jvm.MethodName)) ∈ lw_all := lw_g (lw_at lw_m15 91 rfl) rfl
theorem q3716 : (Jvm.Cond.methodLink "ResourceLedgerModel$Roots" (92 : Nat) ({ cls := "ResourceLedgerModel$Roots", name := "keepHash", desc := "(I)V" } : Jvm.MethodName)) ∈ lw_all := lw_g (lw_at lw_m15 92 rfl) rfl
theorem q3717 : (Jvm.Cond.privateMethod ({ cls := "ResourceLedgerModel$Roots", name := "keepHash", desc := "(I)V" } : Jvm.MethodName)) ∈ lw_tbl := lw_at lw_m15 93 rfl
theorem q3718 : (Jvm.Cond.instanceMethod ({ cls := "ResourceLedgerModel$Roots", name := "keepHash", desc := "(I)V" } : Jvm.MethodName)) ∈ lw_all := lw_g (lw_at lw_m15 94 rfl) rfl
theorem q3719 : (Jvm.Cond.code ({ cls := "ResourceLedgerModel$Roots", name := "keepHash", desc := "(I)V" } : Jvm.MethodName) prog_30_method_10_code (3 : Nat) (Option.none : Option Jvm.ClassFile.FieldType)) ∈ lw_all := lw_g (lw_at lw_m15 95 rfl) rfl
theorem q3720 : (Jvm.Cond.methodLink "ResourceLedgerModel$Roots" (72 : Nat) ({ cls := "ResourceLedgerModel$Digester", name := "end", desc := "()V" } : Jvm.MethodName)) ∈ lw_all := lw_g (lw_at lw_m15 96 rfl) rfl
theorem q3721 : (Jvm.Cond.methodLink "ResourceLedgerModel$Roots" (75 : Nat) ({ cls := "ResourceLedgerModel$Digester", name := "four", desc := "(I)J" } : Jvm.MethodName)) ∈ lw_all := lw_g (lw_at lw_m15 97 rfl) rfl
theorem q3722 : (Jvm.Cond.methodLink "ResourceLedgerModel$Roots" (95 : Nat) ({ cls := "ResourceLedgerModel$Roots", name := "parting", desc := "(I)I" } : Jvm.MethodName)) ∈ lw_all := lw_g (lw_at lw_m15 98 rfl) rfl
theorem q3723 : (Jvm.Cond.privateMethod ({ cls := "ResourceLedgerModel$Roots", name := "parting", desc := "(I)I" } : Jvm.MethodName)) ∈ lw_tbl := lw_at lw_m15 99 rfl
theorem q3724 : (Jvm.Cond.instanceMethod ({ cls := "ResourceLedgerModel$Roots", name := "parting", desc := "(I)I" } : Jvm.MethodName)) ∈ lw_all := lw_g (lw_at lw_m15 100 rfl) rfl
theorem q3725 : (Jvm.Cond.code ({ cls := "ResourceLedgerModel$Roots", name := "parting", desc := "(I)I" } : Jvm.MethodName) prog_30_method_13_code (3 : Nat) (Option.some Jvm.ClassFile.FieldType.int)) ∈ lw_all := lw_g (lw_at lw_m15 101 rfl) rfl
theorem q3726 : (Jvm.Cond.methodLink "ResourceLedgerModel$Roots" (99 : Nat) ({ cls := "java/lang/Math", name := "max", desc := "(II)I" } : Jvm.MethodName)) ∈ lw_all := lw_g (lw_at lw_m15 102 rfl) rfl
theorem q3727 : (Jvm.Cond.methodLink "ResourceLedgerModel$Roots" (105 : Nat) ({ cls := "ResourceLedgerModel$Roots", name := "level", desc := "(I)V" } : Jvm.MethodName)) ∈ lw_all := lw_g (lw_at lw_m15 103 rfl) rfl
theorem q3728 : (Jvm.Cond.privateMethod ({ cls := "ResourceLedgerModel$Roots", name := "level", desc := "(I)V" } : Jvm.MethodName)) ∈ lw_tbl := lw_at lw_m15 104 rfl
theorem q3729 : (Jvm.Cond.instanceMethod ({ cls := "ResourceLedgerModel$Roots", name := "level", desc := "(I)V" } : Jvm.MethodName)) ∈ lw_all := lw_g (lw_at lw_m15 105 rfl) rfl
theorem q3730 : (Jvm.Cond.code ({ cls := "ResourceLedgerModel$Roots", name := "level", desc := "(I)V" } : Jvm.MethodName) prog_30_method_14_code (8 : Nat) (Option.none : Option Jvm.ClassFile.FieldType)) ∈ lw_all := lw_g (lw_at lw_m15 106 rfl) rfl
theorem q3731 : (Jvm.Cond.methodLink "ResourceLedgerModel$Roots" (108 : Nat) ({ cls := "ResourceLedgerModel$Roots", name := "agree", desc := "(III)Z" } : Jvm.MethodName)) ∈ lw_all := lw_g (lw_at lw_m15 107 rfl) rfl
theorem q3732 : (Jvm.Cond.privateMethod ({ cls := "ResourceLedgerModel$Roots", name := "agree", desc := "(III)Z" } : Jvm.MethodName)) ∈ lw_tbl := lw_at lw_m15 108 rfl
theorem q3733 : (Jvm.Cond.instanceMethod ({ cls := "ResourceLedgerModel$Roots", name := "agree", desc := "(III)Z" } : Jvm.MethodName)) ∈ lw_all := lw_g (lw_at lw_m15 109 rfl) rfl
theorem q3734 : (Jvm.Cond.code ({ cls := "ResourceLedgerModel$Roots", name := "agree", desc := "(III)Z" } : Jvm.MethodName) prog_30_method_11_code (8 : Nat) (Option.some Jvm.ClassFile.FieldType.boolean)) ∈ lw_all := lw_g (lw_at lw_m15 110 rfl) rfl
theorem q3736 : (Jvm.Cond.instanceMethod ({ cls := "ResourceLedgerModel$Roots", name := "get", desc := "(I)J" } : Jvm.MethodName)) ∈ lw_all := lw_g (lw_at lw_m15 112 rfl) rfl
theorem q3737 : (Jvm.Cond.selects "ResourceLedgerModel$Roots" ({ cls := "ResourceLedgerModel$Roots", name := "get", desc := "(I)J" } : Jvm.MethodName) ({ cls := "ResourceLedgerModel$Roots", name := "get", desc := "(I)J" } : Jvm.MethodName)) ∈ lw_all := lw_g (lw_at lw_m15 113 rfl) rfl
theorem q3738 : (Jvm.Cond.code ({ cls := "ResourceLedgerModel$Roots", name := "get", desc := "(I)J" } : Jvm.MethodName) prog_30_method_15_code (2 : Nat) (Option.some Jvm.ClassFile.FieldType.long)) ∈ lw_all := lw_g (lw_at lw_m15 114 rfl) rfl
theorem in_X28 : ∀ w ∈ wsX280, w ∈ lw_all := lw_in wsX280 [2511, 2513, 2515, 2517, 2519, 2521, 2523, 2525, 2527, 2529, 2531] (by decide +kernel) (by decide +kernel)
end
section
-- ResourceLedgerModel$Unit
set_option maxRecDepth 100000
def RX29 : String := "ResourceLedgerModel$Unit"
def TX29 : u_T := fun k => match k with
  | 0 => ("ResourceLedgerModel$Unit", "bytes", "[B", true)
  | 1 => ("ResourceLedgerModel$Unit", "length", "I", false)
  | 2 => ("ResourceLedgerModel$Unit", "at", "I", false)
  | 3 => ("ResourceLedgerModel$Unit", "fault", "I", false)
  | 4 => ("ResourceLedgerModel$Unit", "where", "I", false)
  | 5 => ("ResourceLedgerModel$Unit", "structures", "I", false)
  | 6 => ("ResourceLedgerModel$Unit", "foreigns", "I", false)
  | 7 => ("ResourceLedgerModel$Unit", "callees", "I", false)
  | 8 => ("ResourceLedgerModel$Unit", "elements", "I", false)
  | 9 => ("ResourceLedgerModel$Unit", "functions", "I", false)
  | 10 => ("ResourceLedgerModel$Unit", "all", "I", false)
  | 11 => ("ResourceLedgerModel$Unit", "structureAt", "[I", true)
  | 12 => ("ResourceLedgerModel$Unit", "calleeAt", "[I", true)
  | 13 => ("ResourceLedgerModel$Unit", "elementAt", "[I", true)
  | 14 => ("ResourceLedgerModel$Unit", "functionAt", "[I", true)
  | 15 => ("ResourceLedgerModel$Unit", "firsts", "[I", true)
  | 16 => ("ResourceLedgerModel$Unit", "instructionAt", "[I", true)
  | _ => ("ResourceLedgerModel$Unit", "reached", "[Z", true)
def tyX29 : Nat → FieldType := fun k => match k with
  | 0 => .array .byte
  | 1 => .int
  | 2 => .int
  | 3 => .int
  | 4 => .int
  | 5 => .int
  | 6 => .int
  | 7 => .int
  | 8 => .int
  | 9 => .int
  | 10 => .int
  | 11 => .array .int
  | 12 => .array .int
  | 13 => .array .int
  | 14 => .array .int
  | 15 => .array .int
  | 16 => .array .int
  | _ => .array .boolean
abbrev wsX290 : List Cond := u_ws RX29 TX29 18
set_option maxRecDepth 100000 in
theorem nmX29 : ∀ a, a < 18 → ∀ b, b < 18 → a ≠ b → (TX29 a).2.1 ≠ (TX29 b).2.1 := by decide +kernel
set_option maxRecDepth 100000 in
theorem tyX29_ok : ∀ k, k < 18 → parseFieldDescriptor (TX29 k).2.2.1 = some (tyX29 k) := by decide +kernel
abbrev cX29_init : ByteArray := prog_32_method_1_code
def yX29_init : MethodName := ⟨RX29, "<init>", "()V"⟩
abbrev cX29_number : ByteArray := prog_32_method_30_code
def yX29_number : MethodName := ⟨RX29, "number", "()I"⟩
abbrev cX29_shortAt : ByteArray := prog_32_method_5_code
def yX29_shortAt : MethodName := ⟨RX29, "shortAt", "(I)I"⟩
abbrev cX29_byteAt : ByteArray := prog_32_method_4_code
def yX29_byteAt : MethodName := ⟨RX29, "byteAt", "(I)I"⟩
abbrev cX29_flags : ByteArray := prog_32_method_37_code
def yX29_flags : MethodName := ⟨RX29, "flags", "(I)I"⟩
abbrev cX29_many : ByteArray := prog_32_method_39_code
def yX29_many : MethodName := ⟨RX29, "many", "(II)I"⟩
abbrev cX29_listOf : ByteArray := prog_32_method_38_code
def yX29_listOf : MethodName := ⟨RX29, "listOf", "(II)I"⟩
abbrev cX29_listAt : ByteArray := prog_32_method_24_code
def yX29_listAt : MethodName := ⟨RX29, "listAt", "(II)I"⟩
abbrev cX29_listEnd : ByteArray := prog_32_method_19_code
def yX29_listEnd : MethodName := ⟨RX29, "listEnd", "(I)I"⟩
abbrev cX29_typeEnd : ByteArray := prog_32_method_15_code
def yX29_typeEnd : MethodName := ⟨RX29, "typeEnd", "(I)I"⟩
abbrev cX29_listed : ByteArray := prog_32_method_40_code
def yX29_listed : MethodName := ⟨RX29, "listed", "(III)J"⟩
abbrev cX29_typeAt : ByteArray := prog_32_method_34_code
def yX29_typeAt : MethodName := ⟨RX29, "typeAt", "(I)J"⟩
abbrev cX29_read : ByteArray := prog_32_method_29_code
def yX29_read : MethodName := ⟨RX29, "read", "([BII)I"⟩
abbrev cX29_overAll : ByteArray := prog_32_method_14_code
def yX29_overAll : MethodName := ⟨RX29, "overAll", "()V"⟩
abbrev cX29_isGood : ByteArray := prog_32_method_3_code
def yX29_isGood : MethodName := ⟨RX29, "isGood", "()Z"⟩
abbrev cX29_over : ByteArray := prog_32_method_6_code
def yX29_over : MethodName := ⟨RX29, "over", "(I)I"⟩
abbrev cX29_fail : ByteArray := prog_32_method_2_code
def yX29_fail : MethodName := ⟨RX29, "fail", "(II)V"⟩
abbrev cX29_count : ByteArray := prog_32_method_7_code
def yX29_count : MethodName := ⟨RX29, "count", "(II)I"⟩
abbrev cX29_overType : ByteArray := prog_32_method_8_code
def yX29_overType : MethodName := ⟨RX29, "overType", "(Z)V"⟩
abbrev cX29_overList : ByteArray := prog_32_method_9_code
def yX29_overList : MethodName := ⟨RX29, "overList", "(IZ)V"⟩
abbrev cX29_overFunction : ByteArray := prog_32_method_12_code
def yX29_overFunction : MethodName := ⟨RX29, "overFunction", "(I)V"⟩
abbrev cX29_overLists : ByteArray := prog_32_method_13_code
def yX29_overLists : MethodName := ⟨RX29, "overLists", "(I)V"⟩
abbrev cX29_overInstruction : ByteArray := prog_32_method_11_code
def yX29_overInstruction : MethodName := ⟨RX29, "overInstruction", "()V"⟩
abbrev cX29_operandBytes : ByteArray := prog_32_method_10_code
def yX29_operandBytes : MethodName := ⟨RX29, "operandBytes", "(I)I"⟩
abbrev cX29_lookAll : ByteArray := prog_32_method_23_code
def yX29_lookAll : MethodName := ⟨RX29, "lookAll", "()V"⟩
abbrev cX29_fieldsOf : ByteArray := prog_32_method_20_code
def yX29_fieldsOf : MethodName := ⟨RX29, "fieldsOf", "(I)I"⟩
abbrev cX29_lookType : ByteArray := prog_32_method_16_code
def yX29_lookType : MethodName := ⟨RX29, "lookType", "(I)I"⟩
abbrev cX29_isStructureType : ByteArray := prog_32_method_17_code
def yX29_isStructureType : MethodName := ⟨RX29, "isStructureType", "(I)Z"⟩
abbrev cX29_lookList : ByteArray := prog_32_method_18_code
def yX29_lookList : MethodName := ⟨RX29, "lookList", "(I)I"⟩
abbrev cX29_manyIn : ByteArray := prog_32_method_25_code
def yX29_manyIn : MethodName := ⟨RX29, "manyIn", "(II)I"⟩
abbrev cX29_lookInstruction : ByteArray := prog_32_method_22_code
def yX29_lookInstruction : MethodName := ⟨RX29, "lookInstruction", "(III)V"⟩
abbrev cX29_lookOwn : ByteArray := prog_32_method_21_code
def yX29_lookOwn : MethodName := ⟨RX29, "lookOwn", "(I)V"⟩
abbrev cX29_isRound : ByteArray := prog_32_method_27_code
def yX29_isRound : MethodName := ⟨RX29, "isRound", "(I)Z"⟩
abbrev cX29_reach : ByteArray := prog_32_method_28_code
def yX29_reach : MethodName := ⟨RX29, "reach", "(I)V"⟩
abbrev cX29_ownIn : ByteArray := prog_32_method_26_code
def yX29_ownIn : MethodName := ⟨RX29, "ownIn", "(I)I"⟩
abbrev cX29_structureCount : ByteArray := prog_32_method_31_code
def yX29_structureCount : MethodName := ⟨RX29, "structureCount", "()I"⟩
abbrev cX29_identity : ByteArray := prog_32_method_33_code
def yX29_identity : MethodName := ⟨RX29, "identity", "(I)I"⟩
abbrev cX29_abilitiesOf : ByteArray := prog_32_method_32_code
def yX29_abilitiesOf : MethodName := ⟨RX29, "abilitiesOf", "(I)I"⟩
abbrev cX29_functionCount : ByteArray := prog_32_method_36_code
def yX29_functionCount : MethodName := ⟨RX29, "functionCount", "()I"⟩
abbrev cX29_foreignModule : ByteArray := prog_32_method_41_code
def yX29_foreignModule : MethodName := ⟨RX29, "foreignModule", "(I)I"⟩
abbrev cX29_foreignNumber : ByteArray := prog_32_method_42_code
def yX29_foreignNumber : MethodName := ⟨RX29, "foreignNumber", "(I)I"⟩
abbrev cX29_field : ByteArray := prog_32_method_35_code
def yX29_field : MethodName := ⟨RX29, "field", "(II)J"⟩
abbrev cX29_instructions : ByteArray := prog_32_method_44_code
def yX29_instructions : MethodName := ⟨RX29, "instructions", "(I)I"⟩
abbrev cX29_operation : ByteArray := prog_32_method_45_code
def yX29_operation : MethodName := ⟨RX29, "operation", "(II)I"⟩
abbrev cX29_operand : ByteArray := prog_32_method_47_code
def yX29_operand : MethodName := ⟨RX29, "operand", "(III)J"⟩
abbrev cX29_number_2 : ByteArray := prog_32_method_46_code
def yX29_number_2 : MethodName := ⟨RX29, "number", "(II)J"⟩
abbrev cX29_element : ByteArray := prog_32_method_43_code
def yX29_element : MethodName := ⟨RX29, "element", "(I)J"⟩
theorem q301 : (Jvm.Cond.initialized "ResourceLedgerModel$Unit") ∈ lw_all := lw_g (lw_at lw_m1 37 rfl) rfl
theorem q2535 : (Jvm.Cond.instantiable "ResourceLedgerModel$Unit" (18 : Nat)) ∈ lw_all := lw_g (lw_at lw_m10 111 rfl) rfl
theorem q2537 : (Jvm.Cond.instanceMethod ({ cls := "ResourceLedgerModel$Unit", name := "<init>", desc := "()V" } : Jvm.MethodName)) ∈ lw_all := lw_g (lw_at lw_m10 113 rfl) rfl
theorem q2538 : (Jvm.Cond.code ({ cls := "ResourceLedgerModel$Unit", name := "<init>", desc := "()V" } : Jvm.MethodName) prog_32_method_1_code (1 : Nat) (Option.none : Option Jvm.ClassFile.FieldType)) ∈ lw_all := lw_g (lw_at lw_m10 114 rfl) rfl
theorem q2539 : (Jvm.Cond.methodLink "ResourceLedgerModel$Unit" (1 : Nat) ({ cls := "java/lang/Object", name := "<init>", desc := "()V" } : Jvm.MethodName)) ∈ lw_all := lw_g (lw_at lw_m10 115 rfl) rfl
theorem q2540 : (Jvm.Cond.fieldLink "ResourceLedgerModel$Unit" (7 : Nat) "ResourceLedgerModel$Unit" "bytes" "[B") ∈ lw_all := lw_g (lw_at lw_m10 116 rfl) rfl
theorem q2542 : (Jvm.Cond.fieldLink "ResourceLedgerModel$Unit" (43 : Nat) "ResourceLedgerModel$Unit" "length" "I") ∈ lw_all := lw_g (lw_at lw_m10 118 rfl) rfl
theorem q2544 : (Jvm.Cond.fieldLink "ResourceLedgerModel$Unit" (50 : Nat) "ResourceLedgerModel$Unit" "at" "I") ∈ lw_all := lw_g (lw_at lw_m10 120 rfl) rfl
theorem q2545 : (Jvm.Cond.fieldLink "ResourceLedgerModel$Unit" (36 : Nat) "ResourceLedgerModel$Unit" "fault" "I") ∈ lw_all := lw_g (lw_at lw_m10 121 rfl) rfl
theorem q2546 : (Jvm.Cond.fieldLink "ResourceLedgerModel$Unit" (40 : Nat) "ResourceLedgerModel$Unit" "where" "I") ∈ lw_all := lw_g (lw_at lw_m10 122 rfl) rfl
theorem q2549 : (Jvm.Cond.fieldLink "ResourceLedgerModel$Unit" (92 : Nat) "ResourceLedgerModel$Unit" "structures" "I") ∈ lw_all := lw_g (lw_at lw_m10 125 rfl) rfl
theorem q2550 : (Jvm.Cond.fieldLink "ResourceLedgerModel$Unit" (95 : Nat) "ResourceLedgerModel$Unit" "foreigns" "I") ∈ lw_all := lw_g (lw_at lw_m10 126 rfl) rfl
theorem q2551 : (Jvm.Cond.fieldLink "ResourceLedgerModel$Unit" (98 : Nat) "ResourceLedgerModel$Unit" "callees" "I") ∈ lw_all := lw_g (lw_at lw_m10 127 rfl) rfl
theorem q2552 : (Jvm.Cond.fieldLink "ResourceLedgerModel$Unit" (101 : Nat) "ResourceLedgerModel$Unit" "elements" "I") ∈ lw_all := lw_g (lw_at lw_m10 128 rfl) rfl
theorem q2554 : (Jvm.Cond.fieldLink "ResourceLedgerModel$Unit" (104 : Nat) "ResourceLedgerModel$Unit" "functions" "I") ∈ lw_all := lw_g (lw_at lw_m10 130 rfl) rfl
theorem q2555 : (Jvm.Cond.fieldLink "ResourceLedgerModel$Unit" (72 : Nat) "ResourceLedgerModel$Unit" "all" "I") ∈ lw_all := lw_g (lw_at lw_m10 131 rfl) rfl
theorem q2556 : (Jvm.Cond.fieldLink "ResourceLedgerModel$Unit" (13 : Nat) "ResourceLedgerModel$Unit" "structureAt" "[I") ∈ lw_all := lw_g (lw_at lw_m10 132 rfl) rfl
theorem q2557 : (Jvm.Cond.fieldLink "ResourceLedgerModel$Unit" (17 : Nat) "ResourceLedgerModel$Unit" "calleeAt" "[I") ∈ lw_all := lw_g (lw_at lw_m10 133 rfl) rfl
theorem q2558 : (Jvm.Cond.fieldLink "ResourceLedgerModel$Unit" (20 : Nat) "ResourceLedgerModel$Unit" "elementAt" "[I") ∈ lw_all := lw_g (lw_at lw_m10 134 rfl) rfl
theorem q2559 : (Jvm.Cond.fieldLink "ResourceLedgerModel$Unit" (23 : Nat) "ResourceLedgerModel$Unit" "functionAt" "[I") ∈ lw_all := lw_g (lw_at lw_m10 135 rfl) rfl
theorem q2560 : (Jvm.Cond.fieldLink "ResourceLedgerModel$Unit" (26 : Nat) "ResourceLedgerModel$Unit" "firsts" "[I") ∈ lw_all := lw_g (lw_at lw_m10 136 rfl) rfl
theorem q2561 : (Jvm.Cond.fieldLink "ResourceLedgerModel$Unit" (29 : Nat) "ResourceLedgerModel$Unit" "instructionAt" "[I") ∈ lw_all := lw_g (lw_at lw_m10 137 rfl) rfl
theorem q2562 : (Jvm.Cond.fieldLink "ResourceLedgerModel$Unit" (32 : Nat) "ResourceLedgerModel$Unit" "reached" "[Z") ∈ lw_all := lw_g (lw_at lw_m10 138 rfl) rfl
theorem q2563 : (Jvm.Cond.laysFinal "ResourceLedgerModel$Unit" "ResourceLedgerModel$Unit" "bytes" "[B") ∈ lw_all := lw_g (lw_at lw_m10 139 rfl) rfl
theorem q2564 : (Jvm.Cond.soleField "ResourceLedgerModel$Unit" "bytes") ∈ lw_all := lw_g (lw_at lw_m10 140 rfl) rfl
theorem q2565 : (Jvm.Cond.lays "ResourceLedgerModel$Unit" "ResourceLedgerModel$Unit" "length" "I") ∈ lw_all := lw_g (lw_at lw_m10 141 rfl) rfl
theorem q2566 : (Jvm.Cond.soleField "ResourceLedgerModel$Unit" "length") ∈ lw_all := lw_g (lw_at lw_m10 142 rfl) rfl
theorem q2567 : (Jvm.Cond.lays "ResourceLedgerModel$Unit" "ResourceLedgerModel$Unit" "at" "I") ∈ lw_all := lw_g (lw_at lw_m10 143 rfl) rfl
theorem q2568 : (Jvm.Cond.soleField "ResourceLedgerModel$Unit" "at") ∈ lw_all := lw_g (lw_at lw_m10 144 rfl) rfl
theorem q2569 : (Jvm.Cond.lays "ResourceLedgerModel$Unit" "ResourceLedgerModel$Unit" "fault" "I") ∈ lw_all := lw_g (lw_at lw_m10 145 rfl) rfl
theorem q2570 : (Jvm.Cond.soleField "ResourceLedgerModel$Unit" "fault") ∈ lw_all := lw_g (lw_at lw_m10 146 rfl) rfl
theorem q2571 : (Jvm.Cond.lays "ResourceLedgerModel$Unit" "ResourceLedgerModel$Unit" "where" "I") ∈ lw_all := lw_g (lw_at lw_m10 147 rfl) rfl
theorem q2572 : (Jvm.Cond.soleField "ResourceLedgerModel$Unit" "where") ∈ lw_all := lw_g (lw_at lw_m10 148 rfl) rfl
theorem q2573 : (Jvm.Cond.lays "ResourceLedgerModel$Unit" "ResourceLedgerModel$Unit" "structures" "I") ∈ lw_all := lw_g (lw_at lw_m10 149 rfl) rfl
theorem q2574 : (Jvm.Cond.soleField "ResourceLedgerModel$Unit" "structures") ∈ lw_all := lw_g (lw_at lw_m10 150 rfl) rfl
theorem q2575 : (Jvm.Cond.lays "ResourceLedgerModel$Unit" "ResourceLedgerModel$Unit" "foreigns" "I") ∈ lw_all := lw_g (lw_at lw_m10 151 rfl) rfl
theorem q2576 : (Jvm.Cond.soleField "ResourceLedgerModel$Unit" "foreigns") ∈ lw_all := lw_g (lw_at lw_m10 152 rfl) rfl
theorem q2577 : (Jvm.Cond.lays "ResourceLedgerModel$Unit" "ResourceLedgerModel$Unit" "callees" "I") ∈ lw_all := lw_g (lw_at lw_m10 153 rfl) rfl
theorem q2578 : (Jvm.Cond.soleField "ResourceLedgerModel$Unit" "callees") ∈ lw_all := lw_g (lw_at lw_m10 154 rfl) rfl
theorem q2579 : (Jvm.Cond.lays "ResourceLedgerModel$Unit" "ResourceLedgerModel$Unit" "elements" "I") ∈ lw_all := lw_g (lw_at lw_m10 155 rfl) rfl
theorem q2580 : (Jvm.Cond.soleField "ResourceLedgerModel$Unit" "elements") ∈ lw_all := lw_g (lw_at lw_m10 156 rfl) rfl
theorem q2581 : (Jvm.Cond.lays "ResourceLedgerModel$Unit" "ResourceLedgerModel$Unit" "functions" "I") ∈ lw_all := lw_g (lw_at lw_m10 157 rfl) rfl
theorem q2582 : (Jvm.Cond.soleField "ResourceLedgerModel$Unit" "functions") ∈ lw_all := lw_g (lw_at lw_m10 158 rfl) rfl
theorem q2583 : (Jvm.Cond.lays "ResourceLedgerModel$Unit" "ResourceLedgerModel$Unit" "all" "I") ∈ lw_all := lw_g (lw_at lw_m10 159 rfl) rfl
theorem q2584 : (Jvm.Cond.soleField "ResourceLedgerModel$Unit" "all") ∈ lw_all := lw_g (lw_at lw_m10 160 rfl) rfl
theorem q2585 : (Jvm.Cond.laysFinal "ResourceLedgerModel$Unit" "ResourceLedgerModel$Unit" "structureAt" "[I") ∈ lw_all := lw_g (lw_at lw_m10 161 rfl) rfl
theorem q2586 : (Jvm.Cond.soleField "ResourceLedgerModel$Unit" "structureAt") ∈ lw_all := lw_g (lw_at lw_m10 162 rfl) rfl
theorem q2587 : (Jvm.Cond.laysFinal "ResourceLedgerModel$Unit" "ResourceLedgerModel$Unit" "calleeAt" "[I") ∈ lw_all := lw_g (lw_at lw_m10 163 rfl) rfl
theorem q2588 : (Jvm.Cond.soleField "ResourceLedgerModel$Unit" "calleeAt") ∈ lw_all := lw_g (lw_at lw_m10 164 rfl) rfl
theorem q2589 : (Jvm.Cond.laysFinal "ResourceLedgerModel$Unit" "ResourceLedgerModel$Unit" "elementAt" "[I") ∈ lw_all := lw_g (lw_at lw_m10 165 rfl) rfl
theorem q2590 : (Jvm.Cond.soleField "ResourceLedgerModel$Unit" "elementAt") ∈ lw_all := lw_g (lw_at lw_m10 166 rfl) rfl
theorem q2591 : (Jvm.Cond.laysFinal "ResourceLedgerModel$Unit" "ResourceLedgerModel$Unit" "functionAt" "[I") ∈ lw_all := lw_g (lw_at lw_m10 167 rfl) rfl
theorem q2592 : (Jvm.Cond.soleField "ResourceLedgerModel$Unit" "functionAt") ∈ lw_all := lw_g (lw_at lw_m10 168 rfl) rfl
theorem q2593 : (Jvm.Cond.laysFinal "ResourceLedgerModel$Unit" "ResourceLedgerModel$Unit" "firsts" "[I") ∈ lw_all := lw_g (lw_at lw_m10 169 rfl) rfl
theorem q2594 : (Jvm.Cond.soleField "ResourceLedgerModel$Unit" "firsts") ∈ lw_all := lw_g (lw_at lw_m10 170 rfl) rfl
theorem q2595 : (Jvm.Cond.laysFinal "ResourceLedgerModel$Unit" "ResourceLedgerModel$Unit" "instructionAt" "[I") ∈ lw_all := lw_g (lw_at lw_m10 171 rfl) rfl
theorem q2596 : (Jvm.Cond.soleField "ResourceLedgerModel$Unit" "instructionAt") ∈ lw_all := lw_g (lw_at lw_m10 172 rfl) rfl
theorem q2597 : (Jvm.Cond.laysFinal "ResourceLedgerModel$Unit" "ResourceLedgerModel$Unit" "reached" "[Z") ∈ lw_all := lw_g (lw_at lw_m10 173 rfl) rfl
theorem q2598 : (Jvm.Cond.soleField "ResourceLedgerModel$Unit" "reached") ∈ lw_all := lw_g (lw_at lw_m10 174 rfl) rfl
theorem q2599 : (Jvm.Cond.superclass "ResourceLedgerModel$Unit" "java/lang/Object") ∈ lw_all := lw_g (lw_at lw_m10 175 rfl) rfl
theorem q2901 : (Jvm.Cond.instanceMethod ({ cls := "ResourceLedgerModel$Unit", name := "number", desc := "()I" } : Jvm.MethodName)) ∈ lw_all := lw_g (lw_at lw_m11 237 rfl) rfl
theorem q2902 : (Jvm.Cond.selects "ResourceLedgerModel$Unit" ({ cls := "ResourceLedgerModel$Unit", name := "number", desc := "()I" } : Jvm.MethodName) ({ cls := "ResourceLedgerModel$Unit", name := "number", desc := "()I" } : Jvm.MethodName)) ∈ lw_all := lw_g (lw_at lw_m11 238 rfl) rfl
theorem q2903 : (Jvm.Cond.code ({ cls := "ResourceLedgerModel$Unit", name := "number", desc := "()I" } : Jvm.MethodName) prog_32_method_30_code (1 : Nat) (Option.some Jvm.ClassFile.FieldType.int)) ∈ lw_all := lw_g (lw_at lw_m11 239 rfl) rfl
theorem q2904 : (Jvm.Cond.methodLink "ResourceLedgerModel$Unit" (82 : Nat) ({ cls := "ResourceLedgerModel$Unit", name := "shortAt", desc := "(I)I" } : Jvm.MethodName)) ∈ lw_all := lw_g (lw_at lw_m12 0 rfl) rfl
theorem q2905 : (Jvm.Cond.privateMethod ({ cls := "ResourceLedgerModel$Unit", name := "shortAt", desc := "(I)I" } : Jvm.MethodName)) ∈ lw_tbl := lw_at lw_m12 1 rfl
theorem q2906 : (Jvm.Cond.instanceMethod ({ cls := "ResourceLedgerModel$Unit", name := "shortAt", desc := "(I)I" } : Jvm.MethodName)) ∈ lw_all := lw_g (lw_at lw_m12 2 rfl) rfl
theorem q2907 : (Jvm.Cond.code ({ cls := "ResourceLedgerModel$Unit", name := "shortAt", desc := "(I)I" } : Jvm.MethodName) prog_32_method_5_code (2 : Nat) (Option.some Jvm.ClassFile.FieldType.int)) ∈ lw_all := lw_g (lw_at lw_m12 3 rfl) rfl
theorem q2908 : (Jvm.Cond.methodLink "ResourceLedgerModel$Unit" (46 : Nat) ({ cls := "ResourceLedgerModel$Unit", name := "byteAt", desc := "(I)I" } : Jvm.MethodName)) ∈ lw_all := lw_g (lw_at lw_m12 4 rfl) rfl
theorem q2909 : (Jvm.Cond.privateMethod ({ cls := "ResourceLedgerModel$Unit", name := "byteAt", desc := "(I)I" } : Jvm.MethodName)) ∈ lw_tbl := lw_at lw_m12 5 rfl
theorem q2910 : (Jvm.Cond.instanceMethod ({ cls := "ResourceLedgerModel$Unit", name := "byteAt", desc := "(I)I" } : Jvm.MethodName)) ∈ lw_all := lw_g (lw_at lw_m12 6 rfl) rfl
theorem q2911 : (Jvm.Cond.code ({ cls := "ResourceLedgerModel$Unit", name := "byteAt", desc := "(I)I" } : Jvm.MethodName) prog_32_method_4_code (2 : Nat) (Option.some Jvm.ClassFile.FieldType.int)) ∈ lw_all := lw_g (lw_at lw_m12 7 rfl) rfl
theorem q2917 : (Jvm.Cond.instanceMethod ({ cls := "ResourceLedgerModel$Unit", name := "flags", desc := "(I)I" } : Jvm.MethodName)) ∈ lw_all := lw_g (lw_at lw_m12 13 rfl) rfl
theorem q2918 : (Jvm.Cond.selects "ResourceLedgerModel$Unit" ({ cls := "ResourceLedgerModel$Unit", name := "flags", desc := "(I)I" } : Jvm.MethodName) ({ cls := "ResourceLedgerModel$Unit", name := "flags", desc := "(I)I" } : Jvm.MethodName)) ∈ lw_all := lw_g (lw_at lw_m12 14 rfl) rfl
theorem q2919 : (Jvm.Cond.code ({ cls := "ResourceLedgerModel$Unit", name := "flags", desc := "(I)I" } : Jvm.MethodName) prog_32_method_37_code (2 : Nat) (Option.some Jvm.ClassFile.FieldType.int)) ∈ lw_all := lw_g (lw_at lw_m12 15 rfl) rfl
theorem q2921 : (Jvm.Cond.instanceMethod ({ cls := "ResourceLedgerModel$Unit", name := "many", desc := "(II)I" } : Jvm.MethodName)) ∈ lw_all := lw_g (lw_at lw_m12 17 rfl) rfl
theorem q2922 : (Jvm.Cond.selects "ResourceLedgerModel$Unit" ({ cls := "ResourceLedgerModel$Unit", name := "many", desc := "(II)I" } : Jvm.MethodName) ({ cls := "ResourceLedgerModel$Unit", name := "many", desc := "(II)I" } : Jvm.MethodName)) ∈ lw_all := lw_g (lw_at lw_m12 18 rfl) rfl
theorem q2923 : (Jvm.Cond.code ({ cls := "ResourceLedgerModel$Unit", name := "many", desc := "(II)I" } : Jvm.MethodName) prog_32_method_39_code (3 : Nat) (Option.some Jvm.ClassFile.FieldType.int)) ∈ lw_all := lw_g (lw_at lw_m12 19 rfl) rfl
theorem q2924 : (Jvm.Cond.methodLink "ResourceLedgerModel$Unit" (167 : Nat) ({ cls := "ResourceLedgerModel$Unit", name := "listOf", desc := "(II)I" } : Jvm.MethodName)) ∈ lw_all := lw_g (lw_at lw_m12 20 rfl) rfl
theorem q2925 : (Jvm.Cond.privateMethod ({ cls := "ResourceLedgerModel$Unit", name := "listOf", desc := "(II)I" } : Jvm.MethodName)) ∈ lw_tbl := lw_at lw_m12 21 rfl
theorem q2926 : (Jvm.Cond.instanceMethod ({ cls := "ResourceLedgerModel$Unit", name := "listOf", desc := "(II)I" } : Jvm.MethodName)) ∈ lw_all := lw_g (lw_at lw_m12 22 rfl) rfl
theorem q2927 : (Jvm.Cond.code ({ cls := "ResourceLedgerModel$Unit", name := "listOf", desc := "(II)I" } : Jvm.MethodName) prog_32_method_38_code (4 : Nat) (Option.some Jvm.ClassFile.FieldType.int)) ∈ lw_all := lw_g (lw_at lw_m12 23 rfl) rfl
theorem q2928 : (Jvm.Cond.methodLink "ResourceLedgerModel$Unit" (139 : Nat) ({ cls := "ResourceLedgerModel$Unit", name := "listAt", desc := "(II)I" } : Jvm.MethodName)) ∈ lw_all := lw_g (lw_at lw_m12 24 rfl) rfl
theorem q2929 : (Jvm.Cond.privateMethod ({ cls := "ResourceLedgerModel$Unit", name := "listAt", desc := "(II)I" } : Jvm.MethodName)) ∈ lw_tbl := lw_at lw_m12 25 rfl
theorem q2930 : (Jvm.Cond.instanceMethod ({ cls := "ResourceLedgerModel$Unit", name := "listAt", desc := "(II)I" } : Jvm.MethodName)) ∈ lw_all := lw_g (lw_at lw_m12 26 rfl) rfl
theorem q2931 : (Jvm.Cond.code ({ cls := "ResourceLedgerModel$Unit", name := "listAt", desc := "(II)I" } : Jvm.MethodName) prog_32_method_24_code (5 : Nat) (Option.some Jvm.ClassFile.FieldType.int)) ∈ lw_all := lw_g (lw_at lw_m12 27 rfl) rfl
theorem q2932 : (Jvm.Cond.methodLink "ResourceLedgerModel$Unit" (136 : Nat) ({ cls := "ResourceLedgerModel$Unit", name := "listEnd", desc := "(I)I" } : Jvm.MethodName)) ∈ lw_all := lw_g (lw_at lw_m12 28 rfl) rfl
theorem q2933 : (Jvm.Cond.privateMethod ({ cls := "ResourceLedgerModel$Unit", name := "listEnd", desc := "(I)I" } : Jvm.MethodName)) ∈ lw_tbl := lw_at lw_m12 29 rfl
theorem q2934 : (Jvm.Cond.instanceMethod ({ cls := "ResourceLedgerModel$Unit", name := "listEnd", desc := "(I)I" } : Jvm.MethodName)) ∈ lw_all := lw_g (lw_at lw_m12 30 rfl) rfl
theorem q2935 : (Jvm.Cond.code ({ cls := "ResourceLedgerModel$Unit", name := "listEnd", desc := "(I)I" } : Jvm.MethodName) prog_32_method_19_code (5 : Nat) (Option.some Jvm.ClassFile.FieldType.int)) ∈ lw_all := lw_g (lw_at lw_m12 31 rfl) rfl
theorem q2936 : (Jvm.Cond.methodLink "ResourceLedgerModel$Unit" (110 : Nat) ({ cls := "ResourceLedgerModel$Unit", name := "typeEnd", desc := "(I)I" } : Jvm.MethodName)) ∈ lw_all := lw_g (lw_at lw_m12 32 rfl) rfl
theorem q2937 : (Jvm.Cond.privateMethod ({ cls := "ResourceLedgerModel$Unit", name := "typeEnd", desc := "(I)I" } : Jvm.MethodName)) ∈ lw_tbl := lw_at lw_m12 33 rfl
theorem q2938 : (Jvm.Cond.instanceMethod ({ cls := "ResourceLedgerModel$Unit", name := "typeEnd", desc := "(I)I" } : Jvm.MethodName)) ∈ lw_all := lw_g (lw_at lw_m12 34 rfl) rfl
theorem q2939 : (Jvm.Cond.code ({ cls := "ResourceLedgerModel$Unit", name := "typeEnd", desc := "(I)I" } : Jvm.MethodName) prog_32_method_15_code (3 : Nat) (Option.some Jvm.ClassFile.FieldType.int)) ∈ lw_all := lw_g (lw_at lw_m12 35 rfl) rfl
theorem q2941 : (Jvm.Cond.instanceMethod ({ cls := "ResourceLedgerModel$Unit", name := "listed", desc := "(III)J" } : Jvm.MethodName)) ∈ lw_all := lw_g (lw_at lw_m12 37 rfl) rfl
theorem q2942 : (Jvm.Cond.selects "ResourceLedgerModel$Unit" ({ cls := "ResourceLedgerModel$Unit", name := "listed", desc := "(III)J" } : Jvm.MethodName) ({ cls := "ResourceLedgerModel$Unit", name := "listed", desc := "(III)J" } : Jvm.MethodName)) ∈ lw_all := lw_g (lw_at lw_m12 38 rfl) rfl
theorem q2943 : (Jvm.Cond.code ({ cls := "ResourceLedgerModel$Unit", name := "listed", desc := "(III)J" } : Jvm.MethodName) prog_32_method_40_code (6 : Nat) (Option.some Jvm.ClassFile.FieldType.long)) ∈ lw_all := lw_g (lw_at lw_m12 39 rfl) rfl
theorem q2944 : (Jvm.Cond.methodLink "ResourceLedgerModel$Unit" (163 : Nat) ({ cls := "ResourceLedgerModel$Unit", name := "typeAt", desc := "(I)J" } : Jvm.MethodName)) ∈ lw_all := lw_g (lw_at lw_m12 40 rfl) rfl
theorem q2945 : (Jvm.Cond.privateMethod ({ cls := "ResourceLedgerModel$Unit", name := "typeAt", desc := "(I)J" } : Jvm.MethodName)) ∈ lw_tbl := lw_at lw_m12 41 rfl
theorem q2946 : (Jvm.Cond.instanceMethod ({ cls := "ResourceLedgerModel$Unit", name := "typeAt", desc := "(I)J" } : Jvm.MethodName)) ∈ lw_all := lw_g (lw_at lw_m12 42 rfl) rfl
theorem q2947 : (Jvm.Cond.code ({ cls := "ResourceLedgerModel$Unit", name := "typeAt", desc := "(I)J" } : Jvm.MethodName) prog_32_method_34_code (5 : Nat) (Option.some Jvm.ClassFile.FieldType.long)) ∈ lw_all := lw_g (lw_at lw_m12 43 rfl) rfl
theorem q2948 : (Jvm.Cond.constantLong "ResourceLedgerModel$Unit" (161 : Nat) (256 : Int64)) ∈ lw_all := lw_g (lw_at lw_m12 44 rfl) rfl
theorem q2972 : (Jvm.Cond.instanceMethod ({ cls := "ResourceLedgerModel$Unit", name := "read", desc := "([BII)I" } : Jvm.MethodName)) ∈ lw_all := lw_g (lw_at lw_m12 68 rfl) rfl
theorem q2973 : (Jvm.Cond.selects "ResourceLedgerModel$Unit" ({ cls := "ResourceLedgerModel$Unit", name := "read", desc := "([BII)I" } : Jvm.MethodName) ({ cls := "ResourceLedgerModel$Unit", name := "read", desc := "([BII)I" } : Jvm.MethodName)) ∈ lw_all := lw_g (lw_at lw_m12 69 rfl) rfl
theorem q2974 : (Jvm.Cond.code ({ cls := "ResourceLedgerModel$Unit", name := "read", desc := "([BII)I" } : Jvm.MethodName) prog_32_method_29_code (5 : Nat) (Option.some Jvm.ClassFile.FieldType.int)) ∈ lw_all := lw_g (lw_at lw_m12 70 rfl) rfl
theorem q2975 : (Jvm.Cond.methodLink "ResourceLedgerModel$Unit" (148 : Nat) ({ cls := "ResourceLedgerModel$Unit", name := "overAll", desc := "()V" } : Jvm.MethodName)) ∈ lw_all := lw_g (lw_at lw_m12 71 rfl) rfl
theorem q2976 : (Jvm.Cond.privateMethod ({ cls := "ResourceLedgerModel$Unit", name := "overAll", desc := "()V" } : Jvm.MethodName)) ∈ lw_tbl := lw_at lw_m12 72 rfl
theorem q2977 : (Jvm.Cond.instanceMethod ({ cls := "ResourceLedgerModel$Unit", name := "overAll", desc := "()V" } : Jvm.MethodName)) ∈ lw_all := lw_g (lw_at lw_m12 73 rfl) rfl
theorem q2978 : (Jvm.Cond.code ({ cls := "ResourceLedgerModel$Unit", name := "overAll", desc := "()V" } : Jvm.MethodName) prog_32_method_14_code (4 : Nat) (Option.none : Option Jvm.ClassFile.FieldType)) ∈ lw_all := lw_g (lw_at lw_m12 74 rfl) rfl
theorem q2979 : (Jvm.Cond.methodLink "ResourceLedgerModel$Unit" (60 : Nat) ({ cls := "ResourceLedgerModel$Unit", name := "isGood", desc := "()Z" } : Jvm.MethodName)) ∈ lw_all := lw_g (lw_at lw_m12 75 rfl) rfl
theorem q2980 : (Jvm.Cond.privateMethod ({ cls := "ResourceLedgerModel$Unit", name := "isGood", desc := "()Z" } : Jvm.MethodName)) ∈ lw_tbl := lw_at lw_m12 76 rfl
theorem q2981 : (Jvm.Cond.instanceMethod ({ cls := "ResourceLedgerModel$Unit", name := "isGood", desc := "()Z" } : Jvm.MethodName)) ∈ lw_all := lw_g (lw_at lw_m12 77 rfl) rfl
theorem q2982 : (Jvm.Cond.code ({ cls := "ResourceLedgerModel$Unit", name := "isGood", desc := "()Z" } : Jvm.MethodName) prog_32_method_3_code (1 : Nat) (Option.some Jvm.ClassFile.FieldType.boolean)) ∈ lw_all := lw_g (lw_at lw_m12 78 rfl) rfl
theorem q2983 : (Jvm.Cond.methodLink "ResourceLedgerModel$Unit" (57 : Nat) ({ cls := "ResourceLedgerModel$Unit", name := "over", desc := "(I)I" } : Jvm.MethodName)) ∈ lw_all := lw_g (lw_at lw_m12 79 rfl) rfl
theorem q2984 : (Jvm.Cond.privateMethod ({ cls := "ResourceLedgerModel$Unit", name := "over", desc := "(I)I" } : Jvm.MethodName)) ∈ lw_tbl := lw_at lw_m12 80 rfl
theorem q2985 : (Jvm.Cond.instanceMethod ({ cls := "ResourceLedgerModel$Unit", name := "over", desc := "(I)I" } : Jvm.MethodName)) ∈ lw_all := lw_g (lw_at lw_m12 81 rfl) rfl
theorem q2986 : (Jvm.Cond.code ({ cls := "ResourceLedgerModel$Unit", name := "over", desc := "(I)I" } : Jvm.MethodName) prog_32_method_6_code (3 : Nat) (Option.some Jvm.ClassFile.FieldType.int)) ∈ lw_all := lw_g (lw_at lw_m12 82 rfl) rfl
theorem q2987 : (Jvm.Cond.methodLink "ResourceLedgerModel$Unit" (53 : Nat) ({ cls := "ResourceLedgerModel$Unit", name := "fail", desc := "(II)V" } : Jvm.MethodName)) ∈ lw_all := lw_g (lw_at lw_m12 83 rfl) rfl
theorem q2988 : (Jvm.Cond.privateMethod ({ cls := "ResourceLedgerModel$Unit", name := "fail", desc := "(II)V" } : Jvm.MethodName)) ∈ lw_tbl := lw_at lw_m12 84 rfl
theorem q2989 : (Jvm.Cond.instanceMethod ({ cls := "ResourceLedgerModel$Unit", name := "fail", desc := "(II)V" } : Jvm.MethodName)) ∈ lw_all := lw_g (lw_at lw_m12 85 rfl) rfl
theorem q2990 : (Jvm.Cond.code ({ cls := "ResourceLedgerModel$Unit", name := "fail", desc := "(II)V" } : Jvm.MethodName) prog_32_method_2_code (3 : Nat) (Option.none : Option Jvm.ClassFile.FieldType)) ∈ lw_all := lw_g (lw_at lw_m12 86 rfl) rfl
theorem q2991 : (Jvm.Cond.methodLink "ResourceLedgerModel$Unit" (64 : Nat) ({ cls := "ResourceLedgerModel$Unit", name := "count", desc := "(II)I" } : Jvm.MethodName)) ∈ lw_all := lw_g (lw_at lw_m12 87 rfl) rfl
theorem q2992 : (Jvm.Cond.privateMethod ({ cls := "ResourceLedgerModel$Unit", name := "count", desc := "(II)I" } : Jvm.MethodName)) ∈ lw_tbl := lw_at lw_m12 88 rfl
theorem q2993 : (Jvm.Cond.instanceMethod ({ cls := "ResourceLedgerModel$Unit", name := "count", desc := "(II)I" } : Jvm.MethodName)) ∈ lw_all := lw_g (lw_at lw_m12 89 rfl) rfl
theorem q2994 : (Jvm.Cond.code ({ cls := "ResourceLedgerModel$Unit", name := "count", desc := "(II)I" } : Jvm.MethodName) prog_32_method_7_code (4 : Nat) (Option.some Jvm.ClassFile.FieldType.int)) ∈ lw_all := lw_g (lw_at lw_m12 90 rfl) rfl
theorem q2995 : (Jvm.Cond.methodLink "ResourceLedgerModel$Unit" (68 : Nat) ({ cls := "ResourceLedgerModel$Unit", name := "overType", desc := "(Z)V" } : Jvm.MethodName)) ∈ lw_all := lw_g (lw_at lw_m12 91 rfl) rfl
theorem q2996 : (Jvm.Cond.privateMethod ({ cls := "ResourceLedgerModel$Unit", name := "overType", desc := "(Z)V" } : Jvm.MethodName)) ∈ lw_tbl := lw_at lw_m12 92 rfl
theorem q2997 : (Jvm.Cond.instanceMethod ({ cls := "ResourceLedgerModel$Unit", name := "overType", desc := "(Z)V" } : Jvm.MethodName)) ∈ lw_all := lw_g (lw_at lw_m12 93 rfl) rfl
theorem q2998 : (Jvm.Cond.code ({ cls := "ResourceLedgerModel$Unit", name := "overType", desc := "(Z)V" } : Jvm.MethodName) prog_32_method_8_code (5 : Nat) (Option.none : Option Jvm.ClassFile.FieldType)) ∈ lw_all := lw_g (lw_at lw_m12 94 rfl) rfl
theorem q2999 : (Jvm.Cond.methodLink "ResourceLedgerModel$Unit" (88 : Nat) ({ cls := "ResourceLedgerModel$Unit", name := "overList", desc := "(IZ)V" } : Jvm.MethodName)) ∈ lw_all := lw_g (lw_at lw_m12 95 rfl) rfl
theorem q3000 : (Jvm.Cond.privateMethod ({ cls := "ResourceLedgerModel$Unit", name := "overList", desc := "(IZ)V" } : Jvm.MethodName)) ∈ lw_tbl := lw_at lw_m12 96 rfl
theorem q3001 : (Jvm.Cond.instanceMethod ({ cls := "ResourceLedgerModel$Unit", name := "overList", desc := "(IZ)V" } : Jvm.MethodName)) ∈ lw_all := lw_g (lw_at lw_m12 97 rfl) rfl
theorem q3002 : (Jvm.Cond.code ({ cls := "ResourceLedgerModel$Unit", name := "overList", desc := "(IZ)V" } : Jvm.MethodName) prog_32_method_9_code (5 : Nat) (Option.none : Option Jvm.ClassFile.FieldType)) ∈ lw_all := lw_g (lw_at lw_m12 98 rfl) rfl
theorem q3003 : (Jvm.Cond.methodLink "ResourceLedgerModel$Unit" (107 : Nat) ({ cls := "ResourceLedgerModel$Unit", name := "overFunction", desc := "(I)V" } : Jvm.MethodName)) ∈ lw_all := lw_g (lw_at lw_m12 99 rfl) rfl
theorem q3004 : (Jvm.Cond.privateMethod ({ cls := "ResourceLedgerModel$Unit", name := "overFunction", desc := "(I)V" } : Jvm.MethodName)) ∈ lw_tbl := lw_at lw_m12 100 rfl
theorem q3005 : (Jvm.Cond.instanceMethod ({ cls := "ResourceLedgerModel$Unit", name := "overFunction", desc := "(I)V" } : Jvm.MethodName)) ∈ lw_all := lw_g (lw_at lw_m12 101 rfl) rfl
theorem q3006 : (Jvm.Cond.code ({ cls := "ResourceLedgerModel$Unit", name := "overFunction", desc := "(I)V" } : Jvm.MethodName) prog_32_method_12_code (5 : Nat) (Option.none : Option Jvm.ClassFile.FieldType)) ∈ lw_all := lw_g (lw_at lw_m12 102 rfl) rfl
theorem q3007 : (Jvm.Cond.methodLink "ResourceLedgerModel$Unit" (78 : Nat) ({ cls := "ResourceLedgerModel$Unit", name := "overLists", desc := "(I)V" } : Jvm.MethodName)) ∈ lw_all := lw_g (lw_at lw_m12 103 rfl) rfl
theorem q3008 : (Jvm.Cond.privateMethod ({ cls := "ResourceLedgerModel$Unit", name := "overLists", desc := "(I)V" } : Jvm.MethodName)) ∈ lw_tbl := lw_at lw_m12 104 rfl
theorem q3009 : (Jvm.Cond.instanceMethod ({ cls := "ResourceLedgerModel$Unit", name := "overLists", desc := "(I)V" } : Jvm.MethodName)) ∈ lw_all := lw_g (lw_at lw_m12 105 rfl) rfl
theorem q3010 : (Jvm.Cond.code ({ cls := "ResourceLedgerModel$Unit", name := "overLists", desc := "(I)V" } : Jvm.MethodName) prog_32_method_13_code (2 : Nat) (Option.none : Option Jvm.ClassFile.FieldType)) ∈ lw_all := lw_g (lw_at lw_m12 106 rfl) rfl
theorem q3011 : (Jvm.Cond.methodLink "ResourceLedgerModel$Unit" (85 : Nat) ({ cls := "ResourceLedgerModel$Unit", name := "overInstruction", desc := "()V" } : Jvm.MethodName)) ∈ lw_all := lw_g (lw_at lw_m12 107 rfl) rfl
theorem q3012 : (Jvm.Cond.privateMethod ({ cls := "ResourceLedgerModel$Unit", name := "overInstruction", desc := "()V" } : Jvm.MethodName)) ∈ lw_tbl := lw_at lw_m12 108 rfl
theorem q3013 : (Jvm.Cond.instanceMethod ({ cls := "ResourceLedgerModel$Unit", name := "overInstruction", desc := "()V" } : Jvm.MethodName)) ∈ lw_all := lw_g (lw_at lw_m12 109 rfl) rfl
theorem q3014 : (Jvm.Cond.code ({ cls := "ResourceLedgerModel$Unit", name := "overInstruction", desc := "()V" } : Jvm.MethodName) prog_32_method_11_code (2 : Nat) (Option.none : Option Jvm.ClassFile.FieldType)) ∈ lw_all := lw_g (lw_at lw_m12 110 rfl) rfl
theorem q3015 : (Jvm.Cond.methodLink "ResourceLedgerModel$Unit" (75 : Nat) ({ cls := "ResourceLedgerModel$Unit", name := "operandBytes", desc := "(I)I" } : Jvm.MethodName)) ∈ lw_all := lw_g (lw_at lw_m12 111 rfl) rfl
theorem q3016 : (Jvm.Cond.static ({ cls := "ResourceLedgerModel$Unit", name := "operandBytes", desc := "(I)I" } : Jvm.MethodName)) ∈ lw_all := lw_g (lw_at lw_m12 112 rfl) rfl
theorem q3017 : (Jvm.Cond.code ({ cls := "ResourceLedgerModel$Unit", name := "operandBytes", desc := "(I)I" } : Jvm.MethodName) prog_32_method_10_code (1 : Nat) (Option.some Jvm.ClassFile.FieldType.int)) ∈ lw_all := lw_g (lw_at lw_m12 113 rfl) rfl
theorem q3018 : (Jvm.Cond.methodLink "ResourceLedgerModel$Unit" (151 : Nat) ({ cls := "ResourceLedgerModel$Unit", name := "lookAll", desc := "()V" } : Jvm.MethodName)) ∈ lw_all := lw_g (lw_at lw_m12 114 rfl) rfl
theorem q3019 : (Jvm.Cond.privateMethod ({ cls := "ResourceLedgerModel$Unit", name := "lookAll", desc := "()V" } : Jvm.MethodName)) ∈ lw_tbl := lw_at lw_m12 115 rfl
theorem q3020 : (Jvm.Cond.instanceMethod ({ cls := "ResourceLedgerModel$Unit", name := "lookAll", desc := "()V" } : Jvm.MethodName)) ∈ lw_all := lw_g (lw_at lw_m12 116 rfl) rfl
theorem q3021 : (Jvm.Cond.code ({ cls := "ResourceLedgerModel$Unit", name := "lookAll", desc := "()V" } : Jvm.MethodName) prog_32_method_23_code (4 : Nat) (Option.none : Option Jvm.ClassFile.FieldType)) ∈ lw_all := lw_g (lw_at lw_m12 117 rfl) rfl
theorem q3022 : (Jvm.Cond.methodLink "ResourceLedgerModel$Unit" (123 : Nat) ({ cls := "ResourceLedgerModel$Unit", name := "fieldsOf", desc := "(I)I" } : Jvm.MethodName)) ∈ lw_all := lw_g (lw_at lw_m12 118 rfl) rfl
theorem q3023 : (Jvm.Cond.privateMethod ({ cls := "ResourceLedgerModel$Unit", name := "fieldsOf", desc := "(I)I" } : Jvm.MethodName)) ∈ lw_tbl := lw_at lw_m12 119 rfl
theorem q3024 : (Jvm.Cond.instanceMethod ({ cls := "ResourceLedgerModel$Unit", name := "fieldsOf", desc := "(I)I" } : Jvm.MethodName)) ∈ lw_all := lw_g (lw_at lw_m12 120 rfl) rfl
theorem q3025 : (Jvm.Cond.code ({ cls := "ResourceLedgerModel$Unit", name := "fieldsOf", desc := "(I)I" } : Jvm.MethodName) prog_32_method_20_code (2 : Nat) (Option.some Jvm.ClassFile.FieldType.int)) ∈ lw_all := lw_g (lw_at lw_m12 121 rfl) rfl
theorem q3026 : (Jvm.Cond.methodLink "ResourceLedgerModel$Unit" (117 : Nat) ({ cls := "ResourceLedgerModel$Unit", name := "lookType", desc := "(I)I" } : Jvm.MethodName)) ∈ lw_all := lw_g (lw_at lw_m12 122 rfl) rfl
theorem q3027 : (Jvm.Cond.privateMethod ({ cls := "ResourceLedgerModel$Unit", name := "lookType", desc := "(I)I" } : Jvm.MethodName)) ∈ lw_tbl := lw_at lw_m12 123 rfl
theorem q3028 : (Jvm.Cond.instanceMethod ({ cls := "ResourceLedgerModel$Unit", name := "lookType", desc := "(I)I" } : Jvm.MethodName)) ∈ lw_all := lw_g (lw_at lw_m12 124 rfl) rfl
theorem q3029 : (Jvm.Cond.code ({ cls := "ResourceLedgerModel$Unit", name := "lookType", desc := "(I)I" } : Jvm.MethodName) prog_32_method_16_code (3 : Nat) (Option.some Jvm.ClassFile.FieldType.int)) ∈ lw_all := lw_g (lw_at lw_m12 125 rfl) rfl
theorem q3030 : (Jvm.Cond.methodLink "ResourceLedgerModel$Unit" (113 : Nat) ({ cls := "ResourceLedgerModel$Unit", name := "isStructureType", desc := "(I)Z" } : Jvm.MethodName)) ∈ lw_all := lw_g (lw_at lw_m12 126 rfl) rfl
theorem q3031 : (Jvm.Cond.privateMethod ({ cls := "ResourceLedgerModel$Unit", name := "isStructureType", desc := "(I)Z" } : Jvm.MethodName)) ∈ lw_tbl := lw_at lw_m12 127 rfl
theorem q3032 : (Jvm.Cond.instanceMethod ({ cls := "ResourceLedgerModel$Unit", name := "isStructureType", desc := "(I)Z" } : Jvm.MethodName)) ∈ lw_all := lw_g (lw_at lw_m12 128 rfl) rfl
theorem q3033 : (Jvm.Cond.code ({ cls := "ResourceLedgerModel$Unit", name := "isStructureType", desc := "(I)Z" } : Jvm.MethodName) prog_32_method_17_code (3 : Nat) (Option.some Jvm.ClassFile.FieldType.boolean)) ∈ lw_all := lw_g (lw_at lw_m12 129 rfl) rfl
theorem q3034 : (Jvm.Cond.methodLink "ResourceLedgerModel$Unit" (126 : Nat) ({ cls := "ResourceLedgerModel$Unit", name := "lookList", desc := "(I)I" } : Jvm.MethodName)) ∈ lw_all := lw_g (lw_at lw_m12 130 rfl) rfl
theorem q3035 : (Jvm.Cond.privateMethod ({ cls := "ResourceLedgerModel$Unit", name := "lookList", desc := "(I)I" } : Jvm.MethodName)) ∈ lw_tbl := lw_at lw_m12 131 rfl
theorem q3036 : (Jvm.Cond.instanceMethod ({ cls := "ResourceLedgerModel$Unit", name := "lookList", desc := "(I)I" } : Jvm.MethodName)) ∈ lw_all := lw_g (lw_at lw_m12 132 rfl) rfl
theorem q3037 : (Jvm.Cond.code ({ cls := "ResourceLedgerModel$Unit", name := "lookList", desc := "(I)I" } : Jvm.MethodName) prog_32_method_18_code (5 : Nat) (Option.some Jvm.ClassFile.FieldType.int)) ∈ lw_all := lw_g (lw_at lw_m12 133 rfl) rfl
theorem q3038 : (Jvm.Cond.methodLink "ResourceLedgerModel$Unit" (129 : Nat) ({ cls := "ResourceLedgerModel$Unit", name := "manyIn", desc := "(II)I" } : Jvm.MethodName)) ∈ lw_all := lw_g (lw_at lw_m12 134 rfl) rfl
theorem q3039 : (Jvm.Cond.privateMethod ({ cls := "ResourceLedgerModel$Unit", name := "manyIn", desc := "(II)I" } : Jvm.MethodName)) ∈ lw_tbl := lw_at lw_m12 135 rfl
theorem q3040 : (Jvm.Cond.instanceMethod ({ cls := "ResourceLedgerModel$Unit", name := "manyIn", desc := "(II)I" } : Jvm.MethodName)) ∈ lw_all := lw_g (lw_at lw_m12 136 rfl) rfl
theorem q3041 : (Jvm.Cond.code ({ cls := "ResourceLedgerModel$Unit", name := "manyIn", desc := "(II)I" } : Jvm.MethodName) prog_32_method_25_code (3 : Nat) (Option.some Jvm.ClassFile.FieldType.int)) ∈ lw_all := lw_g (lw_at lw_m12 137 rfl) rfl
theorem q3042 : (Jvm.Cond.methodLink "ResourceLedgerModel$Unit" (132 : Nat) ({ cls := "ResourceLedgerModel$Unit", name := "lookInstruction", desc := "(III)V" } : Jvm.MethodName)) ∈ lw_all := lw_g (lw_at lw_m12 138 rfl) rfl
theorem q3043 : (Jvm.Cond.privateMethod ({ cls := "ResourceLedgerModel$Unit", name := "lookInstruction", desc := "(III)V" } : Jvm.MethodName)) ∈ lw_tbl := lw_at lw_m12 139 rfl
theorem q3044 : (Jvm.Cond.instanceMethod ({ cls := "ResourceLedgerModel$Unit", name := "lookInstruction", desc := "(III)V" } : Jvm.MethodName)) ∈ lw_all := lw_g (lw_at lw_m12 140 rfl) rfl
theorem q3045 : (Jvm.Cond.code ({ cls := "ResourceLedgerModel$Unit", name := "lookInstruction", desc := "(III)V" } : Jvm.MethodName) prog_32_method_22_code (5 : Nat) (Option.none : Option Jvm.ClassFile.FieldType)) ∈ lw_all := lw_g (lw_at lw_m12 141 rfl) rfl
theorem q3046 : (Jvm.Cond.methodLink "ResourceLedgerModel$Unit" (120 : Nat) ({ cls := "ResourceLedgerModel$Unit", name := "lookOwn", desc := "(I)V" } : Jvm.MethodName)) ∈ lw_all := lw_g (lw_at lw_m12 142 rfl) rfl
theorem q3047 : (Jvm.Cond.privateMethod ({ cls := "ResourceLedgerModel$Unit", name := "lookOwn", desc := "(I)V" } : Jvm.MethodName)) ∈ lw_tbl := lw_at lw_m12 143 rfl
theorem q3048 : (Jvm.Cond.instanceMethod ({ cls := "ResourceLedgerModel$Unit", name := "lookOwn", desc := "(I)V" } : Jvm.MethodName)) ∈ lw_all := lw_g (lw_at lw_m12 144 rfl) rfl
theorem q3049 : (Jvm.Cond.code ({ cls := "ResourceLedgerModel$Unit", name := "lookOwn", desc := "(I)V" } : Jvm.MethodName) prog_32_method_21_code (2 : Nat) (Option.none : Option Jvm.ClassFile.FieldType)) ∈ lw_all := lw_g (lw_at lw_m12 145 rfl) rfl
theorem q3050 : (Jvm.Cond.methodLink "ResourceLedgerModel$Unit" (154 : Nat) ({ cls := "ResourceLedgerModel$Unit", name := "isRound", desc := "(I)Z" } : Jvm.MethodName)) ∈ lw_all := lw_g (lw_at lw_m12 146 rfl) rfl
theorem q3051 : (Jvm.Cond.privateMethod ({ cls := "ResourceLedgerModel$Unit", name := "isRound", desc := "(I)Z" } : Jvm.MethodName)) ∈ lw_tbl := lw_at lw_m12 147 rfl
theorem q3052 : (Jvm.Cond.instanceMethod ({ cls := "ResourceLedgerModel$Unit", name := "isRound", desc := "(I)Z" } : Jvm.MethodName)) ∈ lw_all := lw_g (lw_at lw_m12 148 rfl) rfl
theorem q3053 : (Jvm.Cond.code ({ cls := "ResourceLedgerModel$Unit", name := "isRound", desc := "(I)Z" } : Jvm.MethodName) prog_32_method_27_code (4 : Nat) (Option.some Jvm.ClassFile.FieldType.boolean)) ∈ lw_all := lw_g (lw_at lw_m12 149 rfl) rfl
theorem q3054 : (Jvm.Cond.methodLink "ResourceLedgerModel$Unit" (142 : Nat) ({ cls := "ResourceLedgerModel$Unit", name := "reach", desc := "(I)V" } : Jvm.MethodName)) ∈ lw_all := lw_g (lw_at lw_m12 150 rfl) rfl
theorem q3055 : (Jvm.Cond.privateMethod ({ cls := "ResourceLedgerModel$Unit", name := "reach", desc := "(I)V" } : Jvm.MethodName)) ∈ lw_tbl := lw_at lw_m12 151 rfl
theorem q3056 : (Jvm.Cond.instanceMethod ({ cls := "ResourceLedgerModel$Unit", name := "reach", desc := "(I)V" } : Jvm.MethodName)) ∈ lw_all := lw_g (lw_at lw_m12 152 rfl) rfl
theorem q3057 : (Jvm.Cond.code ({ cls := "ResourceLedgerModel$Unit", name := "reach", desc := "(I)V" } : Jvm.MethodName) prog_32_method_28_code (4 : Nat) (Option.none : Option Jvm.ClassFile.FieldType)) ∈ lw_all := lw_g (lw_at lw_m12 153 rfl) rfl
theorem q3058 : (Jvm.Cond.methodLink "ResourceLedgerModel$Unit" (145 : Nat) ({ cls := "ResourceLedgerModel$Unit", name := "ownIn", desc := "(I)I" } : Jvm.MethodName)) ∈ lw_all := lw_g (lw_at lw_m12 154 rfl) rfl
theorem q3059 : (Jvm.Cond.privateMethod ({ cls := "ResourceLedgerModel$Unit", name := "ownIn", desc := "(I)I" } : Jvm.MethodName)) ∈ lw_tbl := lw_at lw_m12 155 rfl
theorem q3060 : (Jvm.Cond.instanceMethod ({ cls := "ResourceLedgerModel$Unit", name := "ownIn", desc := "(I)I" } : Jvm.MethodName)) ∈ lw_all := lw_g (lw_at lw_m12 156 rfl) rfl
theorem q3061 : (Jvm.Cond.code ({ cls := "ResourceLedgerModel$Unit", name := "ownIn", desc := "(I)I" } : Jvm.MethodName) prog_32_method_26_code (3 : Nat) (Option.some Jvm.ClassFile.FieldType.int)) ∈ lw_all := lw_g (lw_at lw_m12 157 rfl) rfl
theorem q3067 : (Jvm.Cond.instanceMethod ({ cls := "ResourceLedgerModel$Unit", name := "structureCount", desc := "()I" } : Jvm.MethodName)) ∈ lw_all := lw_g (lw_at lw_m12 163 rfl) rfl
theorem q3068 : (Jvm.Cond.selects "ResourceLedgerModel$Unit" ({ cls := "ResourceLedgerModel$Unit", name := "structureCount", desc := "()I" } : Jvm.MethodName) ({ cls := "ResourceLedgerModel$Unit", name := "structureCount", desc := "()I" } : Jvm.MethodName)) ∈ lw_all := lw_g (lw_at lw_m12 164 rfl) rfl
theorem q3069 : (Jvm.Cond.code ({ cls := "ResourceLedgerModel$Unit", name := "structureCount", desc := "()I" } : Jvm.MethodName) prog_32_method_31_code (1 : Nat) (Option.some Jvm.ClassFile.FieldType.int)) ∈ lw_all := lw_g (lw_at lw_m12 165 rfl) rfl
theorem q3071 : (Jvm.Cond.instanceMethod ({ cls := "ResourceLedgerModel$Unit", name := "identity", desc := "(I)I" } : Jvm.MethodName)) ∈ lw_all := lw_g (lw_at lw_m12 167 rfl) rfl
theorem q3072 : (Jvm.Cond.selects "ResourceLedgerModel$Unit" ({ cls := "ResourceLedgerModel$Unit", name := "identity", desc := "(I)I" } : Jvm.MethodName) ({ cls := "ResourceLedgerModel$Unit", name := "identity", desc := "(I)I" } : Jvm.MethodName)) ∈ lw_all := lw_g (lw_at lw_m12 168 rfl) rfl
theorem q3073 : (Jvm.Cond.code ({ cls := "ResourceLedgerModel$Unit", name := "identity", desc := "(I)I" } : Jvm.MethodName) prog_32_method_33_code (3 : Nat) (Option.some Jvm.ClassFile.FieldType.int)) ∈ lw_all := lw_g (lw_at lw_m12 169 rfl) rfl
theorem q3074 : (Jvm.Cond.methodLink "ResourceLedgerModel$Unit" (157 : Nat) ({ cls := "ResourceLedgerModel$Unit", name := "number", desc := "()I" } : Jvm.MethodName)) ∈ lw_all := lw_g (lw_at lw_m12 170 rfl) rfl
theorem q3084 : (Jvm.Cond.instanceMethod ({ cls := "ResourceLedgerModel$Unit", name := "abilitiesOf", desc := "(I)I" } : Jvm.MethodName)) ∈ lw_all := lw_g (lw_at lw_m12 180 rfl) rfl
theorem q3085 : (Jvm.Cond.selects "ResourceLedgerModel$Unit" ({ cls := "ResourceLedgerModel$Unit", name := "abilitiesOf", desc := "(I)I" } : Jvm.MethodName) ({ cls := "ResourceLedgerModel$Unit", name := "abilitiesOf", desc := "(I)I" } : Jvm.MethodName)) ∈ lw_all := lw_g (lw_at lw_m12 181 rfl) rfl
theorem q3086 : (Jvm.Cond.code ({ cls := "ResourceLedgerModel$Unit", name := "abilitiesOf", desc := "(I)I" } : Jvm.MethodName) prog_32_method_32_code (2 : Nat) (Option.some Jvm.ClassFile.FieldType.int)) ∈ lw_all := lw_g (lw_at lw_m12 182 rfl) rfl
theorem q3088 : (Jvm.Cond.instanceMethod ({ cls := "ResourceLedgerModel$Unit", name := "functionCount", desc := "()I" } : Jvm.MethodName)) ∈ lw_all := lw_g (lw_at lw_m12 184 rfl) rfl
theorem q3089 : (Jvm.Cond.selects "ResourceLedgerModel$Unit" ({ cls := "ResourceLedgerModel$Unit", name := "functionCount", desc := "()I" } : Jvm.MethodName) ({ cls := "ResourceLedgerModel$Unit", name := "functionCount", desc := "()I" } : Jvm.MethodName)) ∈ lw_all := lw_g (lw_at lw_m12 185 rfl) rfl
theorem q3090 : (Jvm.Cond.code ({ cls := "ResourceLedgerModel$Unit", name := "functionCount", desc := "()I" } : Jvm.MethodName) prog_32_method_36_code (1 : Nat) (Option.some Jvm.ClassFile.FieldType.int)) ∈ lw_all := lw_g (lw_at lw_m12 186 rfl) rfl
theorem q3096 : (Jvm.Cond.instanceMethod ({ cls := "ResourceLedgerModel$Unit", name := "foreignModule", desc := "(I)I" } : Jvm.MethodName)) ∈ lw_all := lw_g (lw_at lw_m12 192 rfl) rfl
theorem q3097 : (Jvm.Cond.selects "ResourceLedgerModel$Unit" ({ cls := "ResourceLedgerModel$Unit", name := "foreignModule", desc := "(I)I" } : Jvm.MethodName) ({ cls := "ResourceLedgerModel$Unit", name := "foreignModule", desc := "(I)I" } : Jvm.MethodName)) ∈ lw_all := lw_g (lw_at lw_m12 193 rfl) rfl
theorem q3098 : (Jvm.Cond.code ({ cls := "ResourceLedgerModel$Unit", name := "foreignModule", desc := "(I)I" } : Jvm.MethodName) prog_32_method_41_code (2 : Nat) (Option.some Jvm.ClassFile.FieldType.int)) ∈ lw_all := lw_g (lw_at lw_m12 194 rfl) rfl
theorem q3100 : (Jvm.Cond.instanceMethod ({ cls := "ResourceLedgerModel$Unit", name := "foreignNumber", desc := "(I)I" } : Jvm.MethodName)) ∈ lw_all := lw_g (lw_at lw_m12 196 rfl) rfl
theorem q3101 : (Jvm.Cond.selects "ResourceLedgerModel$Unit" ({ cls := "ResourceLedgerModel$Unit", name := "foreignNumber", desc := "(I)I" } : Jvm.MethodName) ({ cls := "ResourceLedgerModel$Unit", name := "foreignNumber", desc := "(I)I" } : Jvm.MethodName)) ∈ lw_all := lw_g (lw_at lw_m12 197 rfl) rfl
theorem q3102 : (Jvm.Cond.code ({ cls := "ResourceLedgerModel$Unit", name := "foreignNumber", desc := "(I)I" } : Jvm.MethodName) prog_32_method_42_code (2 : Nat) (Option.some Jvm.ClassFile.FieldType.int)) ∈ lw_all := lw_g (lw_at lw_m12 198 rfl) rfl
theorem q3148 : (Jvm.Cond.instanceMethod ({ cls := "ResourceLedgerModel$Unit", name := "field", desc := "(II)J" } : Jvm.MethodName)) ∈ lw_all := lw_g (lw_at lw_m13 4 rfl) rfl
theorem q3149 : (Jvm.Cond.selects "ResourceLedgerModel$Unit" ({ cls := "ResourceLedgerModel$Unit", name := "field", desc := "(II)J" } : Jvm.MethodName) ({ cls := "ResourceLedgerModel$Unit", name := "field", desc := "(II)J" } : Jvm.MethodName)) ∈ lw_all := lw_g (lw_at lw_m13 5 rfl) rfl
theorem q3150 : (Jvm.Cond.code ({ cls := "ResourceLedgerModel$Unit", name := "field", desc := "(II)J" } : Jvm.MethodName) prog_32_method_35_code (5 : Nat) (Option.some Jvm.ClassFile.FieldType.long)) ∈ lw_all := lw_g (lw_at lw_m13 6 rfl) rfl
theorem q3185 : (Jvm.Cond.instanceMethod ({ cls := "ResourceLedgerModel$Unit", name := "instructions", desc := "(I)I" } : Jvm.MethodName)) ∈ lw_all := lw_g (lw_at lw_m13 41 rfl) rfl
theorem q3186 : (Jvm.Cond.selects "ResourceLedgerModel$Unit" ({ cls := "ResourceLedgerModel$Unit", name := "instructions", desc := "(I)I" } : Jvm.MethodName) ({ cls := "ResourceLedgerModel$Unit", name := "instructions", desc := "(I)I" } : Jvm.MethodName)) ∈ lw_all := lw_g (lw_at lw_m13 42 rfl) rfl
theorem q3187 : (Jvm.Cond.code ({ cls := "ResourceLedgerModel$Unit", name := "instructions", desc := "(I)I" } : Jvm.MethodName) prog_32_method_44_code (2 : Nat) (Option.some Jvm.ClassFile.FieldType.int)) ∈ lw_all := lw_g (lw_at lw_m13 43 rfl) rfl
theorem q3191 : (Jvm.Cond.instanceMethod ({ cls := "ResourceLedgerModel$Unit", name := "operation", desc := "(II)I" } : Jvm.MethodName)) ∈ lw_all := lw_g (lw_at lw_m13 47 rfl) rfl
theorem q3192 : (Jvm.Cond.selects "ResourceLedgerModel$Unit" ({ cls := "ResourceLedgerModel$Unit", name := "operation", desc := "(II)I" } : Jvm.MethodName) ({ cls := "ResourceLedgerModel$Unit", name := "operation", desc := "(II)I" } : Jvm.MethodName)) ∈ lw_all := lw_g (lw_at lw_m13 48 rfl) rfl
theorem q3193 : (Jvm.Cond.code ({ cls := "ResourceLedgerModel$Unit", name := "operation", desc := "(II)I" } : Jvm.MethodName) prog_32_method_45_code (3 : Nat) (Option.some Jvm.ClassFile.FieldType.int)) ∈ lw_all := lw_g (lw_at lw_m13 49 rfl) rfl
theorem q3195 : (Jvm.Cond.instanceMethod ({ cls := "ResourceLedgerModel$Unit", name := "operand", desc := "(III)J" } : Jvm.MethodName)) ∈ lw_all := lw_g (lw_at lw_m13 51 rfl) rfl
theorem q3196 : (Jvm.Cond.selects "ResourceLedgerModel$Unit" ({ cls := "ResourceLedgerModel$Unit", name := "operand", desc := "(III)J" } : Jvm.MethodName) ({ cls := "ResourceLedgerModel$Unit", name := "operand", desc := "(III)J" } : Jvm.MethodName)) ∈ lw_all := lw_g (lw_at lw_m13 52 rfl) rfl
theorem q3197 : (Jvm.Cond.code ({ cls := "ResourceLedgerModel$Unit", name := "operand", desc := "(III)J" } : Jvm.MethodName) prog_32_method_47_code (8 : Nat) (Option.some Jvm.ClassFile.FieldType.long)) ∈ lw_all := lw_g (lw_at lw_m13 53 rfl) rfl
theorem q3198 : (Jvm.Cond.methodLink "ResourceLedgerModel$Unit" (170 : Nat) ({ cls := "ResourceLedgerModel$Unit", name := "number", desc := "(II)J" } : Jvm.MethodName)) ∈ lw_all := lw_g (lw_at lw_m13 54 rfl) rfl
theorem q3199 : (Jvm.Cond.privateMethod ({ cls := "ResourceLedgerModel$Unit", name := "number", desc := "(II)J" } : Jvm.MethodName)) ∈ lw_tbl := lw_at lw_m13 55 rfl
theorem q3200 : (Jvm.Cond.instanceMethod ({ cls := "ResourceLedgerModel$Unit", name := "number", desc := "(II)J" } : Jvm.MethodName)) ∈ lw_all := lw_g (lw_at lw_m13 56 rfl) rfl
theorem q3201 : (Jvm.Cond.code ({ cls := "ResourceLedgerModel$Unit", name := "number", desc := "(II)J" } : Jvm.MethodName) prog_32_method_46_code (6 : Nat) (Option.some Jvm.ClassFile.FieldType.long)) ∈ lw_all := lw_g (lw_at lw_m13 57 rfl) rfl
theorem q3311 : (Jvm.Cond.instanceMethod ({ cls := "ResourceLedgerModel$Unit", name := "element", desc := "(I)J" } : Jvm.MethodName)) ∈ lw_all := lw_g (lw_at lw_m13 167 rfl) rfl
theorem q3312 : (Jvm.Cond.selects "ResourceLedgerModel$Unit" ({ cls := "ResourceLedgerModel$Unit", name := "element", desc := "(I)J" } : Jvm.MethodName) ({ cls := "ResourceLedgerModel$Unit", name := "element", desc := "(I)J" } : Jvm.MethodName)) ∈ lw_all := lw_g (lw_at lw_m13 168 rfl) rfl
theorem q3313 : (Jvm.Cond.code ({ cls := "ResourceLedgerModel$Unit", name := "element", desc := "(I)J" } : Jvm.MethodName) prog_32_method_43_code (2 : Nat) (Option.some Jvm.ClassFile.FieldType.long)) ∈ lw_all := lw_g (lw_at lw_m13 169 rfl) rfl
theorem in_X29 : ∀ w ∈ wsX290, w ∈ lw_all := lw_in wsX290 [2563, 2565, 2567, 2569, 2571, 2573, 2575, 2577, 2579, 2581, 2583, 2585, 2587, 2589, 2591, 2593, 2595, 2597] (by decide +kernel) (by decide +kernel)
end
section
-- ResourceLedger$Value
set_option maxRecDepth 100000
def RX30 : String := "ResourceLedger$Value"
def TX30 : u_T := fun k => match k with
  | 0 => ("ResourceLedger$Value", "kind", "I", false)
  | 1 => ("ResourceLedger$Value", "high", "J", false)
  | 2 => ("ResourceLedger$Value", "low", "J", false)
  | 3 => ("ResourceLedger$Value", "first", "LResourceLedger$Value;", false)
  | 4 => ("ResourceLedger$Value", "next", "LResourceLedger$Value;", false)
  | 5 => ("ResourceLedger$Value", "count", "I", false)
  | _ => ("ResourceLedger$Value", "target", "LResourceLedger$Value;", false)
def tyX30 : Nat → FieldType := fun k => match k with
  | 0 => .int
  | 1 => .long
  | 2 => .long
  | 3 => .object "ResourceLedger$Value"
  | 4 => .object "ResourceLedger$Value"
  | 5 => .int
  | _ => .object "ResourceLedger$Value"
abbrev wsX300 : List Cond := u_ws RX30 TX30 7
theorem nmX30 : ∀ a, a < 7 → ∀ b, b < 7 → a ≠ b → (TX30 a).2.1 ≠ (TX30 b).2.1 := by decide +kernel
theorem tyX30_ok : ∀ k, k < 7 → parseFieldDescriptor (TX30 k).2.2.1 = some (tyX30 k) := by decide +kernel
abbrev cX30_size : ByteArray := prog_23_method_5_code
def yX30_size : MethodName := ⟨RX30, "size", "(LResourceLedger$Value;)I"⟩
abbrev cX30_init : ByteArray := prog_23_method_1_code
def yX30_init : MethodName := ⟨RX30, "<init>", "()V"⟩
abbrev cX30_part : ByteArray := prog_23_method_2_code
def yX30_part : MethodName := ⟨RX30, "part", "(I)LResourceLedger$Value;"⟩
abbrev cX30_add : ByteArray := prog_23_method_3_code
def yX30_add : MethodName := ⟨RX30, "add", "(LResourceLedger$Value;)V"⟩
abbrev cX30_isSame : ByteArray := prog_23_method_6_code
def yX30_isSame : MethodName := ⟨RX30, "isSame", "(LResourceLedger$Value;LResourceLedger$Value;)Z"⟩
abbrev cX30_removeLast : ByteArray := prog_23_method_4_code
def yX30_removeLast : MethodName := ⟨RX30, "removeLast", "()LResourceLedger$Value;"⟩
abbrev cX30_coins : ByteArray := prog_23_method_7_code
def yX30_coins : MethodName := ⟨RX30, "coins", "(LResourceLedger$Value;)J"⟩
theorem q302 : (Jvm.Cond.initialized "ResourceLedger$Value") ∈ lw_all := lw_g (lw_at lw_m1 38 rfl) rfl
theorem q1475 : (Jvm.Cond.static ({ cls := "ResourceLedger$Value", name := "size", desc := "(LResourceLedger$Value;)I" } : Jvm.MethodName)) ∈ lw_all := lw_g (lw_at lw_m6 11 rfl) rfl
theorem q1476 : (Jvm.Cond.code ({ cls := "ResourceLedger$Value", name := "size", desc := "(LResourceLedger$Value;)I" } : Jvm.MethodName) prog_23_method_5_code (3 : Nat) (Option.some Jvm.ClassFile.FieldType.int)) ∈ lw_all := lw_g (lw_at lw_m6 12 rfl) rfl
theorem q1477 : (Jvm.Cond.methodLink "ResourceLedger$Value" (24 : Nat) ({ cls := "ResourceLedger$Value", name := "size", desc := "(LResourceLedger$Value;)I" } : Jvm.MethodName)) ∈ lw_all := lw_g (lw_at lw_m6 13 rfl) rfl
theorem q1510 : (Jvm.Cond.instantiable "ResourceLedger$Value" (7 : Nat)) ∈ lw_all := lw_g (lw_at lw_m6 46 rfl) rfl
theorem q1512 : (Jvm.Cond.instanceMethod ({ cls := "ResourceLedger$Value", name := "<init>", desc := "()V" } : Jvm.MethodName)) ∈ lw_all := lw_g (lw_at lw_m6 48 rfl) rfl
theorem q1513 : (Jvm.Cond.code ({ cls := "ResourceLedger$Value", name := "<init>", desc := "()V" } : Jvm.MethodName) prog_23_method_1_code (1 : Nat) (Option.none : Option Jvm.ClassFile.FieldType)) ∈ lw_all := lw_g (lw_at lw_m6 49 rfl) rfl
theorem q1514 : (Jvm.Cond.methodLink "ResourceLedger$Value" (1 : Nat) ({ cls := "java/lang/Object", name := "<init>", desc := "()V" } : Jvm.MethodName)) ∈ lw_all := lw_g (lw_at lw_m6 50 rfl) rfl
theorem q1516 : (Jvm.Cond.fieldLink "ResourceLedger$Value" (28 : Nat) "ResourceLedger$Value" "kind" "I") ∈ lw_all := lw_g (lw_at lw_m6 52 rfl) rfl
theorem q1519 : (Jvm.Cond.fieldLink "ResourceLedger$Value" (31 : Nat) "ResourceLedger$Value" "high" "J") ∈ lw_all := lw_g (lw_at lw_m6 55 rfl) rfl
theorem q1522 : (Jvm.Cond.fieldLink "ResourceLedger$Value" (35 : Nat) "ResourceLedger$Value" "low" "J") ∈ lw_all := lw_g (lw_at lw_m6 58 rfl) rfl
theorem q1524 : (Jvm.Cond.fieldLink "ResourceLedger$Value" (7 : Nat) "ResourceLedger$Value" "first" "LResourceLedger$Value;") ∈ lw_all := lw_g (lw_at lw_m6 60 rfl) rfl
theorem q1527 : (Jvm.Cond.fieldLink "ResourceLedger$Value" (13 : Nat) "ResourceLedger$Value" "next" "LResourceLedger$Value;") ∈ lw_all := lw_g (lw_at lw_m6 63 rfl) rfl
theorem q1531 : (Jvm.Cond.fieldLink "ResourceLedger$Value" (16 : Nat) "ResourceLedger$Value" "count" "I") ∈ lw_all := lw_g (lw_at lw_m6 67 rfl) rfl
theorem q1535 : (Jvm.Cond.lays "ResourceLedger$Value" "ResourceLedger$Value" "kind" "I") ∈ lw_all := lw_g (lw_at lw_m6 71 rfl) rfl
theorem q1536 : (Jvm.Cond.soleField "ResourceLedger$Value" "kind") ∈ lw_all := lw_g (lw_at lw_m6 72 rfl) rfl
theorem q1537 : (Jvm.Cond.lays "ResourceLedger$Value" "ResourceLedger$Value" "high" "J") ∈ lw_all := lw_g (lw_at lw_m6 73 rfl) rfl
theorem q1538 : (Jvm.Cond.soleField "ResourceLedger$Value" "high") ∈ lw_all := lw_g (lw_at lw_m6 74 rfl) rfl
theorem q1539 : (Jvm.Cond.lays "ResourceLedger$Value" "ResourceLedger$Value" "low" "J") ∈ lw_all := lw_g (lw_at lw_m6 75 rfl) rfl
theorem q1540 : (Jvm.Cond.soleField "ResourceLedger$Value" "low") ∈ lw_all := lw_g (lw_at lw_m6 76 rfl) rfl
theorem q1541 : (Jvm.Cond.lays "ResourceLedger$Value" "ResourceLedger$Value" "first" "LResourceLedger$Value;") ∈ lw_all := lw_g (lw_at lw_m6 77 rfl) rfl
theorem q1542 : (Jvm.Cond.soleField "ResourceLedger$Value" "first") ∈ lw_all := lw_g (lw_at lw_m6 78 rfl) rfl
theorem q1543 : (Jvm.Cond.lays "ResourceLedger$Value" "ResourceLedger$Value" "next" "LResourceLedger$Value;") ∈ lw_all := lw_g (lw_at lw_m6 79 rfl) rfl
theorem q1544 : (Jvm.Cond.soleField "ResourceLedger$Value" "next") ∈ lw_all := lw_g (lw_at lw_m6 80 rfl) rfl
theorem q1545 : (Jvm.Cond.lays "ResourceLedger$Value" "ResourceLedger$Value" "count" "I") ∈ lw_all := lw_g (lw_at lw_m6 81 rfl) rfl
theorem q1546 : (Jvm.Cond.soleField "ResourceLedger$Value" "count") ∈ lw_all := lw_g (lw_at lw_m6 82 rfl) rfl
theorem q1547 : (Jvm.Cond.lays "ResourceLedger$Value" "ResourceLedger$Value" "target" "LResourceLedger$Value;") ∈ lw_all := lw_g (lw_at lw_m6 83 rfl) rfl
theorem q1548 : (Jvm.Cond.soleField "ResourceLedger$Value" "target") ∈ lw_all := lw_g (lw_at lw_m6 84 rfl) rfl
theorem q1549 : (Jvm.Cond.superclass "ResourceLedger$Value" "java/lang/Object") ∈ lw_all := lw_g (lw_at lw_m6 85 rfl) rfl
theorem q1594 : (Jvm.Cond.instanceMethod ({ cls := "ResourceLedger$Value", name := "part", desc := "(I)LResourceLedger$Value;" } : Jvm.MethodName)) ∈ lw_all := lw_g (lw_at lw_m6 130 rfl) rfl
theorem q1595 : (Jvm.Cond.selects "ResourceLedger$Value" ({ cls := "ResourceLedger$Value", name := "part", desc := "(I)LResourceLedger$Value;" } : Jvm.MethodName) ({ cls := "ResourceLedger$Value", name := "part", desc := "(I)LResourceLedger$Value;" } : Jvm.MethodName)) ∈ lw_all := lw_g (lw_at lw_m6 131 rfl) rfl
theorem q1596 : (Jvm.Cond.code ({ cls := "ResourceLedger$Value", name := "part", desc := "(I)LResourceLedger$Value;" } : Jvm.MethodName) prog_23_method_2_code (4 : Nat) (Option.some (Jvm.ClassFile.FieldType.object "ResourceLedger$Value"))) ∈ lw_all := lw_g (lw_at lw_m6 132 rfl) rfl
theorem q1634 : (Jvm.Cond.instanceMethod ({ cls := "ResourceLedger$Value", name := "add", desc := "(LResourceLedger$Value;)V" } : Jvm.MethodName)) ∈ lw_all := lw_g (lw_at lw_m6 170 rfl) rfl
theorem q1635 : (Jvm.Cond.selects "ResourceLedger$Value" ({ cls := "ResourceLedger$Value", name := "add", desc := "(LResourceLedger$Value;)V" } : Jvm.MethodName) ({ cls := "ResourceLedger$Value", name := "add", desc := "(LResourceLedger$Value;)V" } : Jvm.MethodName)) ∈ lw_all := lw_g (lw_at lw_m6 171 rfl) rfl
theorem q1636 : (Jvm.Cond.code ({ cls := "ResourceLedger$Value", name := "add", desc := "(LResourceLedger$Value;)V" } : Jvm.MethodName) prog_23_method_3_code (2 : Nat) (Option.none : Option Jvm.ClassFile.FieldType)) ∈ lw_all := lw_g (lw_at lw_m6 172 rfl) rfl
theorem q1637 : (Jvm.Cond.methodLink "ResourceLedger$Value" (20 : Nat) ({ cls := "ResourceLedger$Value", name := "part", desc := "(I)LResourceLedger$Value;" } : Jvm.MethodName)) ∈ lw_all := lw_g (lw_at lw_m6 173 rfl) rfl
theorem q1721 : (Jvm.Cond.static ({ cls := "ResourceLedger$Value", name := "isSame", desc := "(LResourceLedger$Value;LResourceLedger$Value;)Z" } : Jvm.MethodName)) ∈ lw_all := lw_g (lw_at lw_m7 17 rfl) rfl
theorem q1722 : (Jvm.Cond.code ({ cls := "ResourceLedger$Value", name := "isSame", desc := "(LResourceLedger$Value;LResourceLedger$Value;)Z" } : Jvm.MethodName) prog_23_method_6_code (5 : Nat) (Option.some Jvm.ClassFile.FieldType.boolean)) ∈ lw_all := lw_g (lw_at lw_m7 18 rfl) rfl
theorem q1723 : (Jvm.Cond.methodLink "ResourceLedger$Value" (38 : Nat) ({ cls := "ResourceLedger$Value", name := "isSame", desc := "(LResourceLedger$Value;LResourceLedger$Value;)Z" } : Jvm.MethodName)) ∈ lw_all := lw_g (lw_at lw_m7 19 rfl) rfl
theorem q1737 : (Jvm.Cond.instanceMethod ({ cls := "ResourceLedger$Value", name := "removeLast", desc := "()LResourceLedger$Value;" } : Jvm.MethodName)) ∈ lw_all := lw_g (lw_at lw_m7 33 rfl) rfl
theorem q1738 : (Jvm.Cond.selects "ResourceLedger$Value" ({ cls := "ResourceLedger$Value", name := "removeLast", desc := "()LResourceLedger$Value;" } : Jvm.MethodName) ({ cls := "ResourceLedger$Value", name := "removeLast", desc := "()LResourceLedger$Value;" } : Jvm.MethodName)) ∈ lw_all := lw_g (lw_at lw_m7 34 rfl) rfl
theorem q1739 : (Jvm.Cond.code ({ cls := "ResourceLedger$Value", name := "removeLast", desc := "()LResourceLedger$Value;" } : Jvm.MethodName) prog_23_method_4_code (2 : Nat) (Option.some (Jvm.ClassFile.FieldType.object "ResourceLedger$Value"))) ∈ lw_all := lw_g (lw_at lw_m7 35 rfl) rfl
theorem q2184 : (Jvm.Cond.static ({ cls := "ResourceLedger$Value", name := "coins", desc := "(LResourceLedger$Value;)J" } : Jvm.MethodName)) ∈ lw_all := lw_g (lw_at lw_m9 0 rfl) rfl
theorem q2185 : (Jvm.Cond.code ({ cls := "ResourceLedger$Value", name := "coins", desc := "(LResourceLedger$Value;)J" } : Jvm.MethodName) prog_23_method_7_code (4 : Nat) (Option.some Jvm.ClassFile.FieldType.long)) ∈ lw_all := lw_g (lw_at lw_m9 1 rfl) rfl
theorem q2186 : (Jvm.Cond.methodLink "ResourceLedger$Value" (42 : Nat) ({ cls := "ResourceLedger$Value", name := "coins", desc := "(LResourceLedger$Value;)J" } : Jvm.MethodName)) ∈ lw_all := lw_g (lw_at lw_m9 2 rfl) rfl
theorem in_X30 : ∀ w ∈ wsX300, w ∈ lw_all := lw_in wsX300 [1535, 1537, 1539, 1541, 1543, 1545, 1547] (by decide +kernel) (by decide +kernel)
end
section
-- java/lang/Long
set_option maxRecDepth 100000
def RJ7 : String := "java/lang/Long"
abbrev cJ7_compareUnsigned : ByteArray := prog_39_method_43_code
def yJ7_compareUnsigned : MethodName := ⟨RJ7, "compareUnsigned", "(JJ)I"⟩
abbrev cJ7_compare : ByteArray := prog_39_method_42_code
def yJ7_compare : MethodName := ⟨RJ7, "compare", "(JJ)I"⟩
abbrev cJ7_numberOfLeadingZeros : ByteArray := prog_39_method_48_code
def yJ7_numberOfLeadingZeros : MethodName := ⟨RJ7, "numberOfLeadingZeros", "(J)I"⟩
theorem q303 : (Jvm.Cond.initialized "java/lang/Long") ∈ lw_all := lw_g (lw_at lw_m1 39 rfl) rfl
theorem q1639 : (Jvm.Cond.static ({ cls := "java/lang/Long", name := "compareUnsigned", desc := "(JJ)I" } : Jvm.MethodName)) ∈ lw_all := lw_g (lw_at lw_m6 175 rfl) rfl
theorem q1640 : (Jvm.Cond.code ({ cls := "java/lang/Long", name := "compareUnsigned", desc := "(JJ)I" } : Jvm.MethodName) prog_39_method_43_code (4 : Nat) (Option.some Jvm.ClassFile.FieldType.int)) ∈ lw_all := lw_g (lw_at lw_m6 176 rfl) rfl
theorem q1641 : (Jvm.Cond.constantLong "java/lang/Long" (168 : Nat) (-9223372036854775808 : Int64)) ∈ lw_all := lw_g (lw_at lw_m6 177 rfl) rfl
theorem q1642 : (Jvm.Cond.methodLink "java/lang/Long" (302 : Nat) ({ cls := "java/lang/Long", name := "compare", desc := "(JJ)I" } : Jvm.MethodName)) ∈ lw_all := lw_g (lw_at lw_m6 178 rfl) rfl
theorem q1643 : (Jvm.Cond.static ({ cls := "java/lang/Long", name := "compare", desc := "(JJ)I" } : Jvm.MethodName)) ∈ lw_all := lw_g (lw_at lw_m6 179 rfl) rfl
theorem q1644 : (Jvm.Cond.code ({ cls := "java/lang/Long", name := "compare", desc := "(JJ)I" } : Jvm.MethodName) prog_39_method_42_code (4 : Nat) (Option.some Jvm.ClassFile.FieldType.int)) ∈ lw_all := lw_g (lw_at lw_m6 180 rfl) rfl
theorem q1852 : (Jvm.Cond.static ({ cls := "java/lang/Long", name := "numberOfLeadingZeros", desc := "(J)I" } : Jvm.MethodName)) ∈ lw_all := lw_g (lw_at lw_m7 148 rfl) rfl
theorem q1853 : (Jvm.Cond.code ({ cls := "java/lang/Long", name := "numberOfLeadingZeros", desc := "(J)I" } : Jvm.MethodName) prog_39_method_48_code (3 : Nat) (Option.some Jvm.ClassFile.FieldType.int)) ∈ lw_all := lw_g (lw_at lw_m7 149 rfl) rfl
theorem q1854 : (Jvm.Cond.methodLink "java/lang/Long" (308 : Nat) ({ cls := "java/lang/Integer", name := "numberOfLeadingZeros", desc := "(I)I" } : Jvm.MethodName)) ∈ lw_all := lw_g (lw_at lw_m7 150 rfl) rfl
end
section
-- java/lang/Integer
set_option maxRecDepth 100000
def RJ8 : String := "java/lang/Integer"
abbrev cJ8_rotateRight : ByteArray := prog_38_method_51_code
def yJ8_rotateRight : MethodName := ⟨RJ8, "rotateRight", "(II)I"⟩
abbrev cJ8_numberOfLeadingZeros : ByteArray := prog_38_method_47_code
def yJ8_numberOfLeadingZeros : MethodName := ⟨RJ8, "numberOfLeadingZeros", "(I)I"⟩
theorem q304 : (Jvm.Cond.initialized "java/lang/Integer") ∈ lw_all := lw_g (lw_at lw_m1 40 rfl) rfl
theorem q1773 : (Jvm.Cond.static ({ cls := "java/lang/Integer", name := "rotateRight", desc := "(II)I" } : Jvm.MethodName)) ∈ lw_all := lw_g (lw_at lw_m7 69 rfl) rfl
theorem q1774 : (Jvm.Cond.code ({ cls := "java/lang/Integer", name := "rotateRight", desc := "(II)I" } : Jvm.MethodName) prog_38_method_51_code (2 : Nat) (Option.some Jvm.ClassFile.FieldType.int)) ∈ lw_all := lw_g (lw_at lw_m7 70 rfl) rfl
theorem q1855 : (Jvm.Cond.static ({ cls := "java/lang/Integer", name := "numberOfLeadingZeros", desc := "(I)I" } : Jvm.MethodName)) ∈ lw_all := lw_g (lw_at lw_m7 151 rfl) rfl
theorem q1856 : (Jvm.Cond.code ({ cls := "java/lang/Integer", name := "numberOfLeadingZeros", desc := "(I)I" } : Jvm.MethodName) prog_38_method_47_code (2 : Nat) (Option.some Jvm.ClassFile.FieldType.int)) ∈ lw_all := lw_g (lw_at lw_m7 152 rfl) rfl
theorem q1857 : (Jvm.Cond.constant "java/lang/Integer" (264 : Nat) (65536 : Int32)) ∈ lw_all := lw_g (lw_at lw_m7 153 rfl) rfl
end
section
-- ResourceLedger$Type
set_option maxRecDepth 100000
def RX31 : String := "ResourceLedger$Type"
abbrev cX31_head : ByteArray := prog_21_method_3_code
def yX31_head : MethodName := ⟨RX31, "head", "(J)I"⟩
abbrev cX31_top : ByteArray := prog_21_method_2_code
def yX31_top : MethodName := ⟨RX31, "top", "(J)I"⟩
abbrev cX31_rest : ByteArray := prog_21_method_4_code
def yX31_rest : MethodName := ⟨RX31, "rest", "(J)J"⟩
abbrev cX31_isReference : ByteArray := prog_21_method_5_code
def yX31_isReference : MethodName := ⟨RX31, "isReference", "(J)Z"⟩
abbrev cX31_isWriting : ByteArray := prog_21_method_6_code
def yX31_isWriting : MethodName := ⟨RX31, "isWriting", "(J)Z"⟩
abbrev cX31_with : ByteArray := prog_21_method_7_code
def yX31_with : MethodName := ⟨RX31, "with", "(IJ)J"⟩
abbrev cX31_structureOf : ByteArray := prog_21_method_8_code
def yX31_structureOf : MethodName := ⟨RX31, "structureOf", "(I)J"⟩
abbrev cX31_isNumber : ByteArray := prog_21_method_9_code
def yX31_isNumber : MethodName := ⟨RX31, "isNumber", "(J)Z"⟩
theorem q305 : (Jvm.Cond.initialized "ResourceLedger$Type") ∈ lw_all := lw_g (lw_at lw_m1 41 rfl) rfl
theorem q1846 : (Jvm.Cond.static ({ cls := "ResourceLedger$Type", name := "head", desc := "(J)I" } : Jvm.MethodName)) ∈ lw_all := lw_g (lw_at lw_m7 142 rfl) rfl
theorem q1847 : (Jvm.Cond.code ({ cls := "ResourceLedger$Type", name := "head", desc := "(J)I" } : Jvm.MethodName) prog_21_method_3_code (2 : Nat) (Option.some Jvm.ClassFile.FieldType.int)) ∈ lw_all := lw_g (lw_at lw_m7 143 rfl) rfl
theorem q1848 : (Jvm.Cond.methodLink "ResourceLedger$Type" (15 : Nat) ({ cls := "ResourceLedger$Type", name := "top", desc := "(J)I" } : Jvm.MethodName)) ∈ lw_all := lw_g (lw_at lw_m7 144 rfl) rfl
theorem q1849 : (Jvm.Cond.static ({ cls := "ResourceLedger$Type", name := "top", desc := "(J)I" } : Jvm.MethodName)) ∈ lw_all := lw_g (lw_at lw_m7 145 rfl) rfl
theorem q1850 : (Jvm.Cond.code ({ cls := "ResourceLedger$Type", name := "top", desc := "(J)I" } : Jvm.MethodName) prog_21_method_2_code (2 : Nat) (Option.some Jvm.ClassFile.FieldType.int)) ∈ lw_all := lw_g (lw_at lw_m7 146 rfl) rfl
theorem q1851 : (Jvm.Cond.methodLink "ResourceLedger$Type" (9 : Nat) ({ cls := "java/lang/Long", name := "numberOfLeadingZeros", desc := "(J)I" } : Jvm.MethodName)) ∈ lw_all := lw_g (lw_at lw_m7 147 rfl) rfl
theorem q1859 : (Jvm.Cond.static ({ cls := "ResourceLedger$Type", name := "rest", desc := "(J)J" } : Jvm.MethodName)) ∈ lw_all := lw_g (lw_at lw_m7 155 rfl) rfl
theorem q1860 : (Jvm.Cond.code ({ cls := "ResourceLedger$Type", name := "rest", desc := "(J)J" } : Jvm.MethodName) prog_21_method_4_code (2 : Nat) (Option.some Jvm.ClassFile.FieldType.long)) ∈ lw_all := lw_g (lw_at lw_m7 156 rfl) rfl
theorem q1862 : (Jvm.Cond.static ({ cls := "ResourceLedger$Type", name := "isReference", desc := "(J)Z" } : Jvm.MethodName)) ∈ lw_all := lw_g (lw_at lw_m7 158 rfl) rfl
theorem q1863 : (Jvm.Cond.code ({ cls := "ResourceLedger$Type", name := "isReference", desc := "(J)Z" } : Jvm.MethodName) prog_21_method_5_code (2 : Nat) (Option.some Jvm.ClassFile.FieldType.boolean)) ∈ lw_all := lw_g (lw_at lw_m7 159 rfl) rfl
theorem q1864 : (Jvm.Cond.methodLink "ResourceLedger$Type" (20 : Nat) ({ cls := "ResourceLedger$Type", name := "head", desc := "(J)I" } : Jvm.MethodName)) ∈ lw_all := lw_g (lw_at lw_m7 160 rfl) rfl
theorem q1988 : (Jvm.Cond.static ({ cls := "ResourceLedger$Type", name := "isWriting", desc := "(J)Z" } : Jvm.MethodName)) ∈ lw_all := lw_g (lw_at lw_m8 44 rfl) rfl
theorem q1989 : (Jvm.Cond.code ({ cls := "ResourceLedger$Type", name := "isWriting", desc := "(J)Z" } : Jvm.MethodName) prog_21_method_6_code (2 : Nat) (Option.some Jvm.ClassFile.FieldType.boolean)) ∈ lw_all := lw_g (lw_at lw_m8 45 rfl) rfl
theorem q1991 : (Jvm.Cond.static ({ cls := "ResourceLedger$Type", name := "with", desc := "(IJ)J" } : Jvm.MethodName)) ∈ lw_all := lw_g (lw_at lw_m8 47 rfl) rfl
theorem q1992 : (Jvm.Cond.code ({ cls := "ResourceLedger$Type", name := "with", desc := "(IJ)J" } : Jvm.MethodName) prog_21_method_7_code (3 : Nat) (Option.some Jvm.ClassFile.FieldType.long)) ∈ lw_all := lw_g (lw_at lw_m8 48 rfl) rfl
theorem q1998 : (Jvm.Cond.static ({ cls := "ResourceLedger$Type", name := "structureOf", desc := "(I)J" } : Jvm.MethodName)) ∈ lw_all := lw_g (lw_at lw_m8 54 rfl) rfl
theorem q1999 : (Jvm.Cond.code ({ cls := "ResourceLedger$Type", name := "structureOf", desc := "(I)J" } : Jvm.MethodName) prog_21_method_8_code (1 : Nat) (Option.some Jvm.ClassFile.FieldType.long)) ∈ lw_all := lw_g (lw_at lw_m8 55 rfl) rfl
theorem q2000 : (Jvm.Cond.constantLong "ResourceLedger$Type" (23 : Nat) (1536 : Int64)) ∈ lw_all := lw_g (lw_at lw_m8 56 rfl) rfl
theorem q2040 : (Jvm.Cond.static ({ cls := "ResourceLedger$Type", name := "isNumber", desc := "(J)Z" } : Jvm.MethodName)) ∈ lw_all := lw_g (lw_at lw_m8 96 rfl) rfl
theorem q2041 : (Jvm.Cond.code ({ cls := "ResourceLedger$Type", name := "isNumber", desc := "(J)Z" } : Jvm.MethodName) prog_21_method_9_code (2 : Nat) (Option.some Jvm.ClassFile.FieldType.boolean)) ∈ lw_all := lw_g (lw_at lw_m8 97 rfl) rfl
theorem q2042 : (Jvm.Cond.constantLong "ResourceLedger$Type" (25 : Nat) (2 : Int64)) ∈ lw_all := lw_g (lw_at lw_m8 98 rfl) rfl
theorem q2043 : (Jvm.Cond.constantLong "ResourceLedger$Type" (27 : Nat) (3 : Int64)) ∈ lw_all := lw_g (lw_at lw_m8 99 rfl) rfl
theorem q2044 : (Jvm.Cond.constantLong "ResourceLedger$Type" (29 : Nat) (4 : Int64)) ∈ lw_all := lw_g (lw_at lw_m8 100 rfl) rfl
end
section
-- java/lang/Object
set_option maxRecDepth 100000
def RJ9 : String := "java/lang/Object"
abbrev cJ9_init : ByteArray := object_method_1_code
def yJ9_init : MethodName := ⟨RJ9, "<init>", "()V"⟩
theorem q312 : (Jvm.Cond.instanceMethod ({ cls := "java/lang/Object", name := "<init>", desc := "()V" } : Jvm.MethodName)) ∈ lw_all := lw_g (lw_at lw_m1 48 rfl) rfl
theorem q313 : (Jvm.Cond.code ({ cls := "java/lang/Object", name := "<init>", desc := "()V" } : Jvm.MethodName) object_method_1_code (1 : Nat) (Option.none : Option Jvm.ClassFile.FieldType)) ∈ lw_all := lw_g (lw_at lw_m1 49 rfl) rfl
end
section
theorem q327 : (Jvm.Cond.arrayOver (Jvm.ClassFile.FieldType.object "ResourceLedger$Structure")) ∈ lw_tbl := lw_at lw_m1 63 rfl
set_option maxRecDepth 100000
theorem q329 : (Jvm.Cond.arrayOver (Jvm.ClassFile.FieldType.object "ResourceLedger$Function")) ∈ lw_tbl := lw_at lw_m1 65 rfl
theorem q351 : (Jvm.Cond.arrayClass Jvm.ClassFile.FieldType.long) ∈ lw_all := lw_g (lw_at lw_m1 87 rfl) rfl
theorem q352 : (Jvm.Cond.arrayClass Jvm.ClassFile.FieldType.int) ∈ lw_all := lw_g (lw_at lw_m1 88 rfl) rfl
theorem q406 : (Jvm.Cond.arrayClass Jvm.ClassFile.FieldType.byte) ∈ lw_all := lw_g (lw_at lw_m1 142 rfl) rfl
theorem q560 : (Jvm.Cond.arrayOver (Jvm.ClassFile.FieldType.object "ResourceLedger$Entry")) ∈ lw_tbl := lw_at lw_m2 56 rfl
theorem q632 : (Jvm.Cond.arrayOver (Jvm.ClassFile.FieldType.object "ResourceLedger$Transaction")) ∈ lw_tbl := lw_at lw_m2 128 rfl
theorem q762 : (Jvm.Cond.arrayClass Jvm.ClassFile.FieldType.boolean) ∈ lw_all := lw_g (lw_at lw_m3 18 rfl) rfl
theorem q967 : (Jvm.Cond.arrayOver (Jvm.ClassFile.FieldType.object "ResourceLedger$Module")) ∈ lw_tbl := lw_at lw_m3 223 rfl
theorem q975 : (Jvm.Cond.arrayOver (Jvm.ClassFile.FieldType.object "ResourceLedger$Worker")) ∈ lw_tbl := lw_at lw_m3 231 rfl
theorem q982 : (Jvm.Cond.arrayOver (Jvm.ClassFile.FieldType.object "ResourceLedger$Frame")) ∈ lw_tbl := lw_at lw_m3 238 rfl
theorem q991 : (Jvm.Cond.arrayOver (Jvm.ClassFile.FieldType.object "ResourceLedger$Value")) ∈ lw_tbl := lw_at lw_m4 7 rfl
theorem q2342 : (Jvm.Cond.arrayOver (Jvm.ClassFile.FieldType.object "ResourceLedgerModel$Unit")) ∈ lw_tbl := lw_at lw_m9 158 rfl
end
section
theorem q294 : (Jvm.Cond.initialized "ResourceLedger$Form") ∈ lw_all := lw_g (lw_at lw_m1 30 rfl) rfl
set_option maxRecDepth 100000
theorem q1232 : (Jvm.Cond.laysStatic "ResourceLedger$Form" "TARGET" "LResourceLedger$Form;") ∈ lw_tbl := lw_at lw_m5 8 rfl
theorem q1234 : (Jvm.Cond.laysStatic "ResourceLedger$Form" "BYTE" "LResourceLedger$Form;") ∈ lw_tbl := lw_at lw_m5 10 rfl
theorem q1236 : (Jvm.Cond.laysStatic "ResourceLedger$Form" "LONG" "LResourceLedger$Form;") ∈ lw_tbl := lw_at lw_m5 12 rfl
theorem q1238 : (Jvm.Cond.laysStatic "ResourceLedger$Form" "WIDE" "LResourceLedger$Form;") ∈ lw_tbl := lw_at lw_m5 14 rfl
theorem q1240 : (Jvm.Cond.laysStatic "ResourceLedger$Form" "LOCAL" "LResourceLedger$Form;") ∈ lw_tbl := lw_at lw_m5 16 rfl
theorem q1242 : (Jvm.Cond.laysStatic "ResourceLedger$Form" "FIELD" "LResourceLedger$Form;") ∈ lw_tbl := lw_at lw_m5 18 rfl
theorem q1244 : (Jvm.Cond.laysStatic "ResourceLedger$Form" "OWN" "LResourceLedger$Form;") ∈ lw_tbl := lw_at lw_m5 20 rfl
theorem q1246 : (Jvm.Cond.laysStatic "ResourceLedger$Form" "FUNCTION" "LResourceLedger$Form;") ∈ lw_tbl := lw_at lw_m5 22 rfl
theorem q1248 : (Jvm.Cond.laysStatic "ResourceLedger$Form" "MAKE" "LResourceLedger$Form;") ∈ lw_tbl := lw_at lw_m5 24 rfl
theorem q1250 : (Jvm.Cond.laysStatic "ResourceLedger$Form" "ELEMENT" "LResourceLedger$Form;") ∈ lw_tbl := lw_at lw_m5 26 rfl
theorem q1252 : (Jvm.Cond.laysStatic "ResourceLedger$Form" "NONE" "LResourceLedger$Form;") ∈ lw_tbl := lw_at lw_m5 28 rfl
theorem q1277 : (Jvm.Cond.sameMethod "ResourceLedger$Form" "java/lang/Enum" "ordinal" "()I") ∈ lw_all := lw_g (lw_at lw_m5 53 rfl) rfl
theorem q1279 : (Jvm.Cond.selects "ResourceLedger$Form" ({ cls := "ResourceLedger$Form", name := "ordinal", desc := "()I" } : Jvm.MethodName) ({ cls := "java/lang/Enum", name := "ordinal", desc := "()I" } : Jvm.MethodName)) ∈ lw_all := lw_g (lw_at lw_m5 55 rfl) rfl
end
