/-! the program's heap as maps: how many cells, how many slots, what each cell is (a class, or 64 and more for an array), fields, elements -/
def AHT : Nat → Type
  | 0 => Nat
  | 1 => Nat
  | 2 => Nat → Option (Nat × Nat)
  | 3 => Nat → Nat → Int32
  | 4 => Nat → Nat → Int64
  | 5 => Nat → Nat → Option Nat
  | 6 => Nat → Nat → Nat → Int32
  | 7 => Nat → Nat → Nat → Int64
  | 8 => Nat → Nat → Nat → Option Nat
  | _ => Unit
/-- a function by the maps' numbers (no tuple: so two heaps are told apart at once, without looking at their parts) -/
def AH : Type := (k : Nat) → AHT k
def AH.mk (n z : Nat) (t : Nat → Option (Nat × Nat)) (I : Nat → Nat → Int32) (J : Nat → Nat → Int64) (R : Nat → Nat → Option Nat) (EI : Nat → Nat → Nat → Int32) (EJ : Nat → Nat → Nat → Int64) (ER : Nat → Nat → Nat → Option Nat) : AH := fun k => match k with
  | 0 => n
  | 1 => z
  | 2 => t
  | 3 => I
  | 4 => J
  | 5 => R
  | 6 => EI
  | 7 => EJ
  | 8 => ER
  | _ + 9 => ()
def AH.n (h : AH) : Nat := h 0
def AH.z (h : AH) : Nat := h 1
def AH.tag (h : AH) : Nat → Option (Nat × Nat) := h 2
def AH.I (h : AH) : Nat → Nat → Int32 := h 3
def AH.J (h : AH) : Nat → Nat → Int64 := h 4
def AH.R (h : AH) : Nat → Nat → Option Nat := h 5
def AH.EI (h : AH) : Nat → Nat → Nat → Int32 := h 6
def AH.EJ (h : AH) : Nat → Nat → Nat → Int64 := h 7
def AH.ER (h : AH) : Nat → Nat → Nat → Option Nat := h 8
def up2 {α : Type} (f : Nat → Nat → α) (i j : Nat) (v : α) : Nat → Nat → α := fun x y => if x = i ∧ y = j then v else f x y
def up3 {α : Type} (f : Nat → Nat → Nat → α) (i j k : Nat) (v : α) : Nat → Nat → Nat → α := fun x y w => if x = i ∧ y = j ∧ w = k then v else f x y w
def AH.sI (h : AH) (f a : Nat) (v : Int32) : AH := AH.mk (h.n) (h.z) (h.tag) (up2 h.I f a v) (h.J) (h.R) (h.EI) (h.EJ) (h.ER)
def AH.sJ (h : AH) (f a : Nat) (v : Int64) : AH := AH.mk (h.n) (h.z) (h.tag) (h.I) (up2 h.J f a v) (h.R) (h.EI) (h.EJ) (h.ER)
def AH.sR (h : AH) (f a : Nat) (v : Option Nat) : AH := AH.mk (h.n) (h.z) (h.tag) (h.I) (h.J) (up2 h.R f a v) (h.EI) (h.EJ) (h.ER)
def AH.sEI (h : AH) (t a i : Nat) (v : Int32) : AH := AH.mk (h.n) (h.z) (h.tag) (h.I) (h.J) (h.R) (up3 h.EI t a i v) (h.EJ) (h.ER)
def AH.sEJ (h : AH) (t a i : Nat) (v : Int64) : AH := AH.mk (h.n) (h.z) (h.tag) (h.I) (h.J) (h.R) (h.EI) (up3 h.EJ t a i v) (h.ER)
def AH.sER (h : AH) (t a i : Nat) (v : Option Nat) : AH := AH.mk (h.n) (h.z) (h.tag) (h.I) (h.J) (h.R) (h.EI) (h.EJ) (up3 h.ER t a i v)
/-- a new cell: a class or an array, its length, its slots -/
def AH.nw (h : AH) (t len sl : Nat) : AH := AH.mk (h.n + 1) (h.z + sl) (fun a => if a = h.n then some (t, len) else h.tag a) (h.I) (h.J) (h.R) (h.EI) (h.EJ) (h.ER)
/-- what is fixed in a run: launch, classes, array classes, where the run's own cells begin, how far they may go, addresses of constants -/
def Gt : Type := Launch × va_G × (Nat → ClassId) × Nat × Nat × Nat × (Nat → Nat) × Heap
def Gt.l (G : Gt) : Launch := G.1
def Gt.D (G : Gt) : va_G := G.2.1
def Gt.ca (G : Gt) : Nat → ClassId := G.2.2.1
def Gt.b (G : Gt) : Nat := G.2.2.2.1
def Gt.ln (G : Gt) : Nat := G.2.2.2.2.1
def Gt.ls (G : Gt) : Nat := G.2.2.2.2.2.1
def Gt.ad (G : Gt) : Nat → Nat := G.2.2.2.2.2.2.1
/-- the heap before the run -/
def Gt.h0 (G : Gt) : Heap := G.2.2.2.2.2.2.2
/-- element types by code -/
def ety (e : Nat) : FieldType := ([.int, .byte, .boolean, .long, .object "ResourceLedger$Structure", .object "ResourceLedger$Function", .object "ResourceLedger$Entry", .object "ResourceLedger$Transaction", .object "ResourceLedger$Module", .object "ResourceLedger$Worker", .object "ResourceLedger$Frame", .object "ResourceLedger$Value", .object "ResourceLedgerModel$Unit"] : List FieldType).getD e .int
def tys_ (G : Gt) : List (ClassId × FieldType) := (List.range 13).map fun e => (G.ca e, ety e)
def nestW : Cond → Bool
  | .fieldLinkNest .. => true
  | .methodLinkNest .. => true
  | .castable .. => true
  | .declares .. => true
  | _ => false
def nst_ : List Cond := lw_tbl.filter nestW
/-- constants: the forms, four arrays, two statics of Throwable, three strings -/
def fnm_ : List String := ["NONE", "BYTE", "LOCAL", "OWN", "FUNCTION", "ELEMENT", "FIELD", "MAKE", "TARGET", "LONG", "WIDE"]
def ffl_ : List (String × String × String × List Int32) := [("ResourceLedger$Form", "first", "I", [0, 1, 1, 1, 1, 1, 1, 1, 2, 8, 8]), ("ResourceLedger$Form", "second", "I", [0, 0, 0, 0, 0, 0, 1, 1, 0, 0, 8]), ("java/lang/Enum", "ordinal", "I", [0, 1, 2, 3, 4, 5, 6, 7, 8, 9, 10])]
def SC (G : Gt) (U : State) : Prop := va_En "ResourceLedger$Form" "LResourceLedger$Form;" fnm_ ffl_ G.ad (fun q => G.b ≤ q) U G.h0 ∧
  (va_Z "ResourceLedger" "COIN" "[I" (.ref (G.ad 11)) (fun q => G.b ≤ q) U G.h0 ∧ va_Z "ResourceLedger$Reader" "BEGINNING" "[I" (.ref (G.ad 12)) (fun q => G.b ≤ q) U G.h0 ∧
   va_Z "ResourceLedger$HashTree$Digest" "ROUNDS" "[I" (.ref (G.ad 13)) (fun q => G.b ≤ q) U G.h0 ∧ va_Z "ResourceLedgerModel$Digester" "CONSTANTS" "[J" (.ref (G.ad 14)) (fun q => G.b ≤ q) U G.h0) ∧
  (va_Zq "java/lang/Throwable" "UNASSIGNED_STACK" "[Ljava/lang/StackTraceElement;" (fun q => G.b ≤ q) U G.h0 ∧ va_Zq "java/lang/Throwable" "SUPPRESSED_SENTINEL" "Ljava/util/List;" (fun q => G.b ≤ q) U G.h0) ∧
  (vk_R "ResourceLedger" 107 "stopped" (G.ad 15) U ∧ vk_R "ResourceLedger$Checker" 44 "wrong" (G.ad 16) U ∧ vk_R "ResourceLedger$Reader" 17 "wrong" (G.ad 17) U)
theorem SC.mv {G : Gt} {s U : State} (hA : s.vm.Alike U.vm) (hR : ∀ {own tx : String} {k a : Nat}, vk_R own k tx a s → vk_R own k tx a U) (h : SC G s) : SC G U := by
  obtain ⟨h1, ⟨h2, h3, h4, h5⟩, ⟨h6, h7⟩, h8, h9, h10⟩ := h
  exact ⟨va_En.moved hA h1, ⟨va_Z.moved hA h2, va_Z.moved hA h3, va_Z.moved hA h4, va_Z.moved hA h5⟩, ⟨va_Zq.moved hA h6, va_Zq.moved hA h7⟩, hR h8, hR h9, hR h10⟩
/-- what the tables say, in every state of the run -/
def KW (G : Gt) (U : State) : Prop := va_K G.D cl_ (tys_ G) U ∧ (∀ w ∈ nst_, va_Nw w U) ∧ (∀ C e, 4 ≤ e → e < 13 → ety e = .object C → va_AO C U) ∧ SC G U
theorem KW.warm {G : Gt} {s U : State} (hW : s.WarmedH U.vm) (h : KW G s) : KW G U := by
  refine ⟨va_K.moved hW.alike h.1, fun w hw => ?_, fun C e h1 h2 h3 => (h.2.2.1 C e h1 h2 h3).moved hW.alike, h.2.2.2.mv hW.alike (fun q => vk_R.warm hW q)⟩
  have h2 := h.2.1 w hw
  have h3 := (List.mem_filter.mp hw).2
  cases w <;> first | exact va_Nw.warmF hW h2 | exact va_Nw.warmM hW h2 | exact va_Nw.warmC hW h2 | exact va_Nw.warmD hW h2 | (exact absurd h3 (by simp [nestW]))
theorem KW.same {G : Gt} {s U : State} (e : s.vm = U.vm) (h : KW G s) : KW G U := by
  have hA : s.vm.Alike U.vm := by rw [e]; exact Vm.Alike.refl _
  refine ⟨va_K.moved hA h.1, fun w hw => ?_, fun C e h1 h2 h3 => (h.2.2.1 C e h1 h2 h3).moved hA, h.2.2.2.mv hA (fun q => vk_R.same e.symm q)⟩
  have h2 := h.2.1 w hw
  have h3 := (List.mem_filter.mp hw).2
  cases w <;> first | exact va_Nw.same rfl e h2 | (exact absurd h3 (by simp [nestW]))
def fk (t k : Nat) : Nat := (fkT_.getD t []).getD k 0
def fv (h : AH) (t k a : Nat) : Value := match fk t k with
  | 0 => .int (h.I (128 * t + k) a)
  | 1 => .long (h.J (128 * t + k) a)
  | _ => va_rf (h.R (128 * t + k) a)
def ev (h : AH) (t a j : Nat) : Value := if t % 16 < 3 then .int (h.EI t a j) else if t % 16 = 3 then .long (h.EJ t a j) else va_rf (h.ER t a j)
/-- the cell at a is what its tag says -/
def CK (G : Gt) (h : AH) (H : Heap) (a t len : Nat) : Prop :=
  (t < 64 → ∃ r, cl_[t]? = some r ∧ t_OB a (G.D.1 t) r.2.2 (G.D.2 t) H (fun k => fv h t k a)) ∧
  (64 ≤ t → len < 2 ^ 31 ∧ H[a]? = some (arrV (G.ca (t % 16)) len (ev h t a))) ∧ (t < 4096 → G.b ≤ a)
/-- cells that aren't made yet hold nothing -/
def FR (h : AH) : Prop := ∀ a, h.n ≤ a → h.tag a = none ∧ (∀ f, h.I f a = 0 ∧ h.J f a = 0 ∧ h.R f a = none) ∧ ∀ t i, h.EI t a i = 0 ∧ h.EJ t a i = 0 ∧ h.ER t a i = none
/-- what was there before the run is as it was -/
def PR (G : Gt) (H : Heap) : Prop := ∀ q : Nat, q < G.b → H[q]? = G.h0[q]?
def HR (G : Gt) (h : AH) (H : Heap) : Prop := H.size = h.n ∧ (G.b ≤ h.n ∧ PR G H) ∧ h.n ≤ G.ln ∧ h.z ≤ G.ls ∧ FR h ∧ ∀ a t len, h.tag a = some (t, len) → CK G h H a t len
theorem HR.lt {G : Gt} {h : AH} {H : Heap} (hH : HR G h H) {a : Nat} {x : Nat × Nat} (ht : h.tag a = some x) : a < h.n := by
  rcases Nat.lt_or_ge a h.n with q | q
  · exact q
  · have := (hH.2.2.2.2.1 a q).1
    rw [ht] at this; cases this
theorem CK.kept {G : Gt} {h h' : AH} {H H' : Heap} {a t len : Nat} (c : CK G h H a t len) (hq : H'[a]? = H[a]?)
    (ho : (∀ f, h'.I f a = h.I f a ∧ h'.J f a = h.J f a ∧ h'.R f a = h.R f a) ∧ ∀ t i, h'.EI t a i = h.EI t a i ∧ h'.EJ t a i = h.EJ t a i ∧ h'.ER t a i = h.ER t a i) : CK G h' H' a t len := by
  refine ⟨fun h1 => ?_, fun h1 => ?_, c.2.2⟩
  · obtain ⟨r, e1, e2⟩ := c.1 h1
    refine ⟨r, e1, (e2.kept hq).to fun k hk => ?_⟩
    unfold fv
    split
    · rw [(ho.1 _).1]
    · rw [(ho.1 _).2.1]
    · rw [(ho.1 _).2.2]
  · obtain ⟨e1, e2⟩ := c.2.1 h1
    refine ⟨e1, ?_⟩
    rw [hq, e2]
    congr 2
    funext j
    unfold ev
    rw [(ho.2 t j).1, (ho.2 t j).2.1, (ho.2 t j).2.2]
/-- a step that changes one cell alone -/
theorem HR.one {G : Gt} {h h' : AH} {H H' : Heap} (hH : HR G h H) (hn : h'.n = h.n) (hz : h'.z = h.z) (ht : h'.tag = h.tag) (a : Nat) (ha : a < h.n) (hab : G.b ≤ a)
    (ho : ∀ b, b ≠ a → (∀ f, h'.I f b = h.I f b ∧ h'.J f b = h.J f b ∧ h'.R f b = h.R f b) ∧ ∀ t i, h'.EI t b i = h.EI t b i ∧ h'.EJ t b i = h.EJ t b i ∧ h'.ER t b i = h.ER t b i)
    (hs : H'.size = H.size) (hq : ∀ q, q ≠ a → H'[q]? = H[q]?) (hc : ∀ t len, h.tag a = some (t, len) → CK G h' H' a t len) : HR G h' H' := by
  obtain ⟨g1, g2, g3, g4, g5, g6⟩ := hH
  refine ⟨by rw [hs, hn]; exact g1, ⟨by rw [hn]; exact g2.1, fun q hq2 => by rw [hq q (by omega)]; exact g2.2 q hq2⟩, by rw [hn]; exact g3, by rw [hz]; exact g4, fun b hb => ?_, fun b t len hb => ?_⟩
  · have hba : b ≠ a := by omega
    rw [hn] at hb
    obtain ⟨q1, q2, q3⟩ := g5 b hb
    obtain ⟨o1, o2⟩ := ho b hba
    exact ⟨by rw [ht]; exact q1, fun f => ⟨by rw [(o1 f).1]; exact (q2 f).1, by rw [(o1 f).2.1]; exact (q2 f).2.1, by rw [(o1 f).2.2]; exact (q2 f).2.2⟩,
      fun t i => ⟨by rw [(o2 t i).1]; exact (q3 t i).1, by rw [(o2 t i).2.1]; exact (q3 t i).2.1, by rw [(o2 t i).2.2]; exact (q3 t i).2.2⟩⟩
  · rw [ht] at hb
    by_cases hba : b = a
    · subst hba; exact hc t len hb
    · exact (g6 b t len hb).kept (hq b hba) (ho b hba)
/-- a new cell -/
theorem HR.born {G : Gt} {h : AH} {H H' : Heap} (hH : HR G h H) (t len sl : Nat) (hs : H'.size = h.n + 1) (hq : ∀ q, q < h.n → H'[q]? = H[q]?) (hl : h.n + 1 ≤ G.ln) (hz : h.z + sl ≤ G.ls)
    (hc : CK G (h.nw t len sl) H' h.n t len) : HR G (h.nw t len sl) H' := by
  obtain ⟨g1, g2, g3, g4, g5, g6⟩ := id hH
  refine ⟨hs, ⟨Nat.le_succ_of_le g2.1, fun q hq2 => by rw [hq q (by have := g2.1; omega)]; exact g2.2 q hq2⟩, hl, hz, fun b hb => ?_, fun b t' len' hb => ?_⟩
  · have hb' : h.n + 1 ≤ b := hb
    obtain ⟨q1, q2, q3⟩ := g5 b (by omega)
    refine ⟨?_, q2, q3⟩
    show (if b = h.n then some (t, len) else h.tag b) = none
    rw [if_neg (by omega)]; exact q1
  · have hb' : (if b = h.n then some (t, len) else h.tag b) = some (t', len') := hb
    by_cases hbn : b = h.n
    · rw [if_pos hbn] at hb'
      cases hb'
      subst hbn
      exact hc
    · rw [if_neg hbn] at hb'
      have hlt := hH.lt hb'
      exact (g6 b t' len' hb').kept (hq b hlt) ⟨fun _ => ⟨rfl, rfl, rfl⟩, fun _ _ => ⟨rfl, rfl, rfl⟩⟩
theorem n_sI (h : AH) (f a : Nat) (v : Int32) : (h.sI f a v).n = h.n := rfl
theorem z_sI (h : AH) (f a : Nat) (v : Int32) : (h.sI f a v).z = h.z := rfl
theorem tag_sI (h : AH) (f a : Nat) (v : Int32) : (h.sI f a v).tag = h.tag := rfl
theorem I_sI (h : AH) (f a : Nat) (v : Int32) (g b : Nat) : (h.sI f a v).I g b = if g = f ∧ b = a then v else h.I g b := rfl
theorem J_sI (h : AH) (f a : Nat) (v : Int32) : (h.sI f a v).J = h.J := rfl
theorem R_sI (h : AH) (f a : Nat) (v : Int32) : (h.sI f a v).R = h.R := rfl
theorem EI_sI (h : AH) (f a : Nat) (v : Int32) : (h.sI f a v).EI = h.EI := rfl
theorem EJ_sI (h : AH) (f a : Nat) (v : Int32) : (h.sI f a v).EJ = h.EJ := rfl
theorem ER_sI (h : AH) (f a : Nat) (v : Int32) : (h.sI f a v).ER = h.ER := rfl
theorem n_sJ (h : AH) (f a : Nat) (v : Int64) : (h.sJ f a v).n = h.n := rfl
theorem z_sJ (h : AH) (f a : Nat) (v : Int64) : (h.sJ f a v).z = h.z := rfl
theorem tag_sJ (h : AH) (f a : Nat) (v : Int64) : (h.sJ f a v).tag = h.tag := rfl
theorem I_sJ (h : AH) (f a : Nat) (v : Int64) : (h.sJ f a v).I = h.I := rfl
theorem J_sJ (h : AH) (f a : Nat) (v : Int64) (g b : Nat) : (h.sJ f a v).J g b = if g = f ∧ b = a then v else h.J g b := rfl
theorem R_sJ (h : AH) (f a : Nat) (v : Int64) : (h.sJ f a v).R = h.R := rfl
theorem EI_sJ (h : AH) (f a : Nat) (v : Int64) : (h.sJ f a v).EI = h.EI := rfl
theorem EJ_sJ (h : AH) (f a : Nat) (v : Int64) : (h.sJ f a v).EJ = h.EJ := rfl
theorem ER_sJ (h : AH) (f a : Nat) (v : Int64) : (h.sJ f a v).ER = h.ER := rfl
theorem n_sR (h : AH) (f a : Nat) (v : Option Nat) : (h.sR f a v).n = h.n := rfl
theorem z_sR (h : AH) (f a : Nat) (v : Option Nat) : (h.sR f a v).z = h.z := rfl
theorem tag_sR (h : AH) (f a : Nat) (v : Option Nat) : (h.sR f a v).tag = h.tag := rfl
theorem I_sR (h : AH) (f a : Nat) (v : Option Nat) : (h.sR f a v).I = h.I := rfl
theorem J_sR (h : AH) (f a : Nat) (v : Option Nat) : (h.sR f a v).J = h.J := rfl
theorem R_sR (h : AH) (f a : Nat) (v : Option Nat) (g b : Nat) : (h.sR f a v).R g b = if g = f ∧ b = a then v else h.R g b := rfl
theorem EI_sR (h : AH) (f a : Nat) (v : Option Nat) : (h.sR f a v).EI = h.EI := rfl
theorem EJ_sR (h : AH) (f a : Nat) (v : Option Nat) : (h.sR f a v).EJ = h.EJ := rfl
theorem ER_sR (h : AH) (f a : Nat) (v : Option Nat) : (h.sR f a v).ER = h.ER := rfl
theorem n_sEI (h : AH) (t a i : Nat) (v : Int32) : (h.sEI t a i v).n = h.n := rfl
theorem z_sEI (h : AH) (t a i : Nat) (v : Int32) : (h.sEI t a i v).z = h.z := rfl
theorem tag_sEI (h : AH) (t a i : Nat) (v : Int32) : (h.sEI t a i v).tag = h.tag := rfl
theorem I_sEI (h : AH) (t a i : Nat) (v : Int32) : (h.sEI t a i v).I = h.I := rfl
theorem J_sEI (h : AH) (t a i : Nat) (v : Int32) : (h.sEI t a i v).J = h.J := rfl
theorem R_sEI (h : AH) (t a i : Nat) (v : Int32) : (h.sEI t a i v).R = h.R := rfl
theorem EI_sEI (h : AH) (t a i : Nat) (v : Int32) (g b j : Nat) : (h.sEI t a i v).EI g b j = if g = t ∧ b = a ∧ j = i then v else h.EI g b j := rfl
theorem EJ_sEI (h : AH) (t a i : Nat) (v : Int32) : (h.sEI t a i v).EJ = h.EJ := rfl
theorem ER_sEI (h : AH) (t a i : Nat) (v : Int32) : (h.sEI t a i v).ER = h.ER := rfl
theorem n_sEJ (h : AH) (t a i : Nat) (v : Int64) : (h.sEJ t a i v).n = h.n := rfl
theorem z_sEJ (h : AH) (t a i : Nat) (v : Int64) : (h.sEJ t a i v).z = h.z := rfl
theorem tag_sEJ (h : AH) (t a i : Nat) (v : Int64) : (h.sEJ t a i v).tag = h.tag := rfl
theorem I_sEJ (h : AH) (t a i : Nat) (v : Int64) : (h.sEJ t a i v).I = h.I := rfl
theorem J_sEJ (h : AH) (t a i : Nat) (v : Int64) : (h.sEJ t a i v).J = h.J := rfl
theorem R_sEJ (h : AH) (t a i : Nat) (v : Int64) : (h.sEJ t a i v).R = h.R := rfl
theorem EI_sEJ (h : AH) (t a i : Nat) (v : Int64) : (h.sEJ t a i v).EI = h.EI := rfl
theorem EJ_sEJ (h : AH) (t a i : Nat) (v : Int64) (g b j : Nat) : (h.sEJ t a i v).EJ g b j = if g = t ∧ b = a ∧ j = i then v else h.EJ g b j := rfl
theorem ER_sEJ (h : AH) (t a i : Nat) (v : Int64) : (h.sEJ t a i v).ER = h.ER := rfl
theorem n_sER (h : AH) (t a i : Nat) (v : Option Nat) : (h.sER t a i v).n = h.n := rfl
theorem z_sER (h : AH) (t a i : Nat) (v : Option Nat) : (h.sER t a i v).z = h.z := rfl
theorem tag_sER (h : AH) (t a i : Nat) (v : Option Nat) : (h.sER t a i v).tag = h.tag := rfl
theorem I_sER (h : AH) (t a i : Nat) (v : Option Nat) : (h.sER t a i v).I = h.I := rfl
theorem J_sER (h : AH) (t a i : Nat) (v : Option Nat) : (h.sER t a i v).J = h.J := rfl
theorem R_sER (h : AH) (t a i : Nat) (v : Option Nat) : (h.sER t a i v).R = h.R := rfl
theorem EI_sER (h : AH) (t a i : Nat) (v : Option Nat) : (h.sER t a i v).EI = h.EI := rfl
theorem EJ_sER (h : AH) (t a i : Nat) (v : Option Nat) : (h.sER t a i v).EJ = h.EJ := rfl
theorem ER_sER (h : AH) (t a i : Nat) (v : Option Nat) (g b j : Nat) : (h.sER t a i v).ER g b j = if g = t ∧ b = a ∧ j = i then v else h.ER g b j := rfl
theorem n_nw (h : AH) (t len sl : Nat) : (h.nw t len sl).n = h.n + 1 := rfl
theorem z_nw (h : AH) (t len sl : Nat) : (h.nw t len sl).z = h.z + sl := rfl
theorem tag_nw (h : AH) (t len sl a : Nat) : (h.nw t len sl).tag a = if a = h.n then some (t, len) else h.tag a := rfl
theorem I_nw (h : AH) (t len sl : Nat) : (h.nw t len sl).I = h.I := rfl
theorem J_nw (h : AH) (t len sl : Nat) : (h.nw t len sl).J = h.J := rfl
theorem R_nw (h : AH) (t len sl : Nat) : (h.nw t len sl).R = h.R := rfl
theorem EI_nw (h : AH) (t len sl : Nat) : (h.nw t len sl).EI = h.EI := rfl
theorem EJ_nw (h : AH) (t len sl : Nat) : (h.nw t len sl).EJ = h.EJ := rfl
theorem ER_nw (h : AH) (t len sl : Nat) : (h.nw t len sl).ER = h.ER := rfl
theorem fv0 {h : AH} {t k a : Nat} (hq : fk t k = 0) : fv h t k a = .int (h.I (128 * t + k) a) := by simp only [fv, hq]
theorem fv1 {h : AH} {t k a : Nat} (hq : fk t k = 1) : fv h t k a = .long (h.J (128 * t + k) a) := by simp only [fv, hq]
theorem fv2 {h : AH} {t k a : Nat} (hq : fk t k = 2) : fv h t k a = va_rf (h.R (128 * t + k) a) := by simp only [fv, hq]
