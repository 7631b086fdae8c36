/-- the word of a method's code -/
def cw (M : Et) : Cond := if M.hh = [] then Cond.code M.y M.cc M.ml M.ret else Cond.codeWith M.y M.cc M.ml M.ret M.hh
theorem cw_spec {M : Et} {args : Array Value} {s : State} {m : MethodId} (hn : s.methodNamed? M.y = some m) (h : (cw M).before args s = true) :
    ∃ meth c, s.vm.method? m = some meth ∧ meth.code = some c ∧ c.code = M.cc ∧ c.maxLocals = M.ml ∧ meth.sig.returnType = M.ret ∧ meth.locks = false ∧ c.exceptionTable.toList = tableOf M.hh ∧ parseMethodDescriptor M.y.desc = some meth.sig := by
  unfold cw at h
  split at h
  · next e =>
    obtain ⟨meth, c, a1, a2, a3, a4, a5, a6, a7, a8⟩ := Cond.code_spec hn h
    refine ⟨meth, c, a1, a2, a3, a4, a5, a6, ?_, a8⟩
    rw [e]
    have : c.exceptionTable = #[] := by simpa using a7
    rw [this]; rfl
  · obtain ⟨m', meth, c, a0, a1, a2, a3, a4, a5, a6, a7, a8⟩ := Cond.codeWith_spec h
    cases hn.symm.trans a0
    exact ⟨meth, c, a1, a2, a3, a4, a6, a7, by rw [← a5, table_eq], a8⟩
def rm_ (G : Gt) (d : Nat) (h : AH) : Room := { frames := d, cells := G.ln - h.n, slots := G.ls - h.z, locals := 96 * d }
/-- what a method's end says -/
def QM (G : Gt) (h : AH) (K : Outcome → AH → Prop) (st : State) (o : Outcome) (t : State) : Prop := st.WarmedH t.vm ∧ ∃ (h' : AH) (L : List Loc) (k n : Nat), HR G h' t.heap ∧ K o h' ∧ st.sameButNew ({ t with vm := st.vm } : State) L k n ∧ (∀ q ∈ L, G.b ≤ q.base) ∧ k + h.n = h'.n ∧ n + h.z = h'.z
/-- A METHOD's CONTRACT: called with these arguments in this heap it comes to an end, by an outcome and a heap that K allows; d: how deep calls in it may go -/
def MW (G : Gt) (d : Nat) (M : Et) (as : List Value) (h : AH) (K : Outcome → AH → Prop) : Prop :=
  MetFree G.l M.y (headSpec (cw M :: lw_all) (rm_ G d h)) (fun a U => a = as.toArray ∧ HR G h U.heap ∧ KW G U) (fun _ _ _ _ _ => True) (fun _ st o t => QM G h K st o t)
theorem MW.mono {G : Gt} {d : Nat} {M : Et} {as : List Value} {h : AH} {K K' : Outcome → AH → Prop} (m : MW G d M as h K) (hk : ∀ o h', K o h' → K' o h') : MW G d M as h K' := by
  intro p e h1 h2 h3 s m' args below h4 h5 h6 h7
  obtain ⟨n, o, a1, a2, a3, a4, h', L, k, n', b1, b2, b3⟩ := m p e h1 h2 h3 s m' args below h4 h5 h6 h7
  exact ⟨n, o, a1, a2, a3, a4, h', L, k, n', b1, hk o h' b2, b3⟩
/-- arguments as locals -/
def lay : List Value → List Value
  | [] => []
  | v :: r => if v.category = 2 then v :: nov :: lay r else v :: lay r
def lay0 (ml : Nat) (as : List Value) : List Value := lay as ++ List.replicate (ml - (lay as).length) nov
def lwd (wd : List Nat) : Nat → List Value → Bool
  | _, [] => true
  | i, v :: r => if v.category = 2 then wd.contains i && lwd wd (i + 2) r else lwd wd (i + 1) r
theorem lay_len (as : List Value) : (lay as).length = (lg_sl as).length := by
  induction as with
  | nil => rfl
  | cons v r ih =>
    unfold lay lg_sl
    rw [List.flatMap_cons]
    split
    · rw [List.length_append, List.length_cons, List.length_cons, ih]; unfold lg_sl; simp; omega
    · rw [List.length_append, List.length_cons, ih]; unfold lg_sl; simp; omega
theorem lay_mem {as : List Value} : ∀ {i k : Nat} {v : Value}, (lay as)[i]? = some v → v ≠ nov → (k + i, v) ∈ lv_args k as := by
  induction as with
  | nil => intro i k v h; simp [lay] at h
  | cons w r ih =>
    intro i k v h hv
    unfold lay at h
    unfold lv_args
    split at h
    · next c =>
      rw [if_pos c]
      match i, h with
      | 0, h => simp at h; subst h; exact List.mem_cons_self
      | 1, h => simp at h; exact absurd h.symm hv
      | i + 2, h =>
        have := ih (k := k + 2) (by simpa using h) hv
        rw [show k + 2 + i = k + (i + 2) by omega] at this
        exact List.mem_cons_of_mem _ this
    · next c =>
      rw [if_neg c]
      match i, h with
      | 0, h => simp at h; subst h; exact List.mem_cons_self
      | i + 1, h =>
        have := ih (k := k + 1) (by simpa using h) hv
        rw [show k + 1 + i = k + (i + 1) by omega] at this
        exact List.mem_cons_of_mem _ this
theorem lay_wd {wd : List Nat} {as : List Value} : ∀ {k i : Nat} {v : Value}, lwd wd k as = true → (lay as)[i]? = some v → v.category = 2 → wd.contains (k + i) = true := by
  induction as with
  | nil => intro k i v _ h; simp [lay] at h
  | cons w r ih =>
    intro k i v h0 h hv
    unfold lay at h
    unfold lwd at h0
    split at h
    · next c =>
      rw [if_pos c, Bool.and_eq_true] at h0
      match i, h with
      | 0, h => exact h0.1
      | 1, h => simp at h; rw [← h] at hv; exact absurd hv (by decide)
      | i + 2, h =>
        have := ih h0.2 (by simpa using h) hv
        rw [show k + 2 + i = k + (i + 2) by omega] at this
        exact this
    · next c =>
      rw [if_neg c] at h0
      match i, h with
      | 0, h => simp at h; rw [← h] at hv; exact absurd hv c
      | i + 1, h =>
        have := ih h0 (by simpa using h) hv
        rw [show k + 1 + i = k + (i + 1) by omega] at this
        exact this
theorem lay0_at {ml : Nat} {as : List Value} {i : Nat} {v : Value} (h : (lay0 ml as)[i]? = some v) (hv : v ≠ nov) : (lay as)[i]? = some v := by
  unfold lay0 at h
  rw [List.getElem?_append] at h
  split at h
  · exact h
  · have := List.mem_of_getElem? h
    exact absurd (List.eq_of_mem_replicate this) hv
theorem LX.entry {wd : List Nat} {ml : Nat} {as : List Value} (hl : (lay as).length ≤ ml) (hw : lwd wd 0 as = true) : LX wd ml ((lg_sl as ++ List.replicate (ml - (lg_sl as).length) Slot.unset).toArray) (lay0 ml as) := by
  have hlen : (lay0 ml as).length = ml := by unfold lay0; simp; omega
  have hb := lv_entry as (n := ml) (by rw [← lay_len]; exact hl)
  refine ⟨⟨?_, fun i v h hv => ?_⟩, hlen⟩
  · rw [hlen]
    refine hb.of fun q hq => ?_
    obtain ⟨i, v⟩ := q
    obtain ⟨h1, h2⟩ := mem_asc.mp hq
    have := lay_mem (k := 0) (lay0_at h1 h2) h2
    rw [Nat.zero_add] at this
    exact this
  · have hvn : v ≠ nov := fun e => by rw [e, nov_cat] at hv; cases hv
    have := lay_wd hw (lay0_at h hvn) hv
    rw [Nat.zero_add] at this
    exact this
/-- A CONTRACT OUT OF A WALK -/
theorem MW.start {G : Gt} {d : Nat} {M : Et} {as : List Value} {h : AH} {K : Outcome → AH → Prop} (hy : plainName M.y.cls = true) (hl : (lay as).length ≤ M.ml) (hw : lwd M.wd 0 as = true)
    (body : ∀ X : Xt, OK M X → X.G = G → X.d = d → V X K 0 (lay0 M.ml as) [] h) : MW G d M as h K := by
  refine MetFree.of_bodyS (code := M.cc) (maxLocals := M.ml) (ret := M.ret) hy ?_ ?_
  · intro args s m hp hn
    obtain ⟨meth, c, a1, a2, a3, a4, a5, a6, -⟩ := cw_spec hn (atoms_spec (ws := cw M :: lw_all) hp _ List.mem_cons_self)
    exact ⟨meth, c, a1, a2, a3, a4, a5, a6⟩
  · intro p e s m args below meth c s₁ B hml hP _
    obtain ⟨rfl, hH, hK⟩ := hP
    have hpre := atoms_spec (ws := cw M :: lw_all) B.pre
    obtain ⟨meth', c', b1, b2, -, -, -, -, b7, -⟩ := cw_spec B.named (hpre _ List.mem_cons_self)
    cases B.method.symm.trans b1
    cases (Stand.of_body B).code.symm.trans b2
    have hh0 : s₁.heap = s.heap := by rw [B.state]; rfl
    let X : Xt := (G, p, e, rm_ G d h, s, m, as.toArray, below, meth, c, h.n, h.z, d, M.wd)
    have hO : OK M X := by
      refine ⟨⟨B.exec, B.bytes, hml, B.returns, B.notSynchronized, (name_of_methodNamed B.named B.method).1, rfl⟩, ⟨findClass_of_methodNamed B.named, fun w hw => hpre w (List.mem_cons_of_mem _ hw), hK, b7⟩, Nat.le_refl _, Nat.le_refl _, ?_, ?_⟩
      · show G.ln ≤ h.n + (G.ln - h.n); omega
      · show G.ls ≤ h.z + (G.ls - h.z); omega
    have hv := body X hO rfl rfl s.heap [] 0 0 ((lg_sl as ++ List.replicate (M.ml - (lg_sl as).length) Slot.unset).toArray) hH (by show LX M.wd c.maxLocals _ _; rw [hml]; exact LX.entry hl hw) (fun _ q => by cases q) (Nat.zero_add _) (Nat.zero_add _)
    obtain ⟨t, c1, o, c2, c3, c4, h', L, k, n, c5, c6, c7, c8, c9, c10⟩ := hv s₁ hh0 (Stand.of_body B)
    refine ⟨t, o, ?_, c2, c3, c4, h', L, k, n, c5, c6, c7, c8, c9, c10⟩
    rw [lg_entry_eq]
    exact c1
/-! calls -/
theorem inv_core {E : Et} {X : Xt} (o : OK E X) {M : Et} {d' : Nat} {as : List Value} {h : AH} {K K' : Outcome → AH → Prop} (hM : MW X.G d' M as h K') (hd : d' + 1 ≤ X.d) (hml : M.ml ≤ 61) (hwm : cw M ∈ lw_all) (hin : Cond.initialized M.y.cls ∈ lw_all)
    {T : State} {locs : List Loc} {cells slots : Nat} (S : Stand X.p X.G.l X.e X.R X.s X.m X.args X.below X.meth X.c T locs cells slots) (hH : HR X.G h T.heap) (h3 : ∀ q ∈ locs, X.G.b ≤ q.base) (h4 : cells + X.n0 = h.n) (h5 : slots + X.z0 = h.z)
    {g : JFrame} (hg : g.method = X.m) (hsize : g.locals.size = X.c.maxLocals) {ig : Instr} (hdg : decode X.c.code g.pc = .ok (ig, 3)) (hW : 2 * g.monitorRoom + (g.stack.map fun v => v.category).sum ≤ 24) {mk : MethodId} (hn : T.methodNamed? M.y = some mk)
    (kr : ∀ (v : Option Value) (h' : AH) (T' : State) (locs' : List Loc) (cells' slots' : Nat), K' (.returned v) h' → HR X.G h' T'.heap → Stand X.p X.G.l X.e X.R X.s X.m X.args X.below X.meth X.c T' locs' cells' slots' → (∀ q ∈ locs', X.G.b ≤ q.base) → cells' + X.n0 = h'.n → slots' + X.z0 = h'.z →
      ∃ t, Steps X.p.tables X.e X.below (T'.setTop { g with pc := g.pc + 3, stack := v.toList ++ g.stack }) t ∧ QF X K t)
    (kt : ∀ (a : Addr) (h' : AH) (T' : State) (locs' : List Loc) (cells' slots' : Nat), K' (.threw a) h' → HR X.G h' T'.heap → Stand X.p X.G.l X.e X.R X.s X.m X.args X.below X.meth X.c T' locs' cells' slots' → (∀ q ∈ locs', X.G.b ≤ q.base) → cells' + X.n0 = h'.n → slots' + X.z0 = h'.z →
      ∃ t, Steps X.p.tables X.e X.below ((T'.setTop g).pushFrame (.throwing a)) t ∧ QF X K t) :
    ∃ t, Steps X.p.tables X.e X.below (doInvoke X.e (T.setTop g) [] mk as.toArray).1 t ∧ QF X K t := by
  have rr := o.2.2
  have hwT : ∀ w ∈ lw_all, w.before as.toArray T = true := fun w hw => word_at S.warmed (lw_self w hw).2 (o.2.1.2.1 w hw)
  obtain ⟨methY, cY, hmY, hcY, -, hlY, -⟩ := cw_spec hn (hwT _ hwm)
  obtain ⟨kY, hkY, -⟩ := className_of_methodNamed hn
  have hinitY : kY.init = .initialized := Cond.initialized_spec (findClass_of_methodNamed hn) hkY (hwT _ hin)
  have hA : At T g.method X.c X.below := by rw [hg]; exact S.here
  have hpre : (headSpec (cw M :: lw_all) (rm_ X.G d' h)).pre.before as.toArray T = true := atoms_intro fun w hw => by
    rcases List.mem_cons.mp hw with e | e
    · rw [e]; exact hwT _ hwm
    · exact hwT _ e
  have happ : (headSpec (cw M :: lw_all) (rm_ X.G d' h)).appliesLoose M.y X.e.platform (T.calling g mk as.toArray) = true :=
    Spec.appliesLoose_calling (g := g) hA hdg hn hkY hinitY (S.room_calling (g := g) (R' := rm_ X.G d' h) hsize hmY hcY (by show d' + 1 ≤ _; omega) (by rw [hlY]; show _ + 96 * d' ≤ _; omega) (by show cells + (X.G.ln - h.n) ≤ _; have := hH.2.2.1; omega) (by show slots + (X.G.ls - h.z) ≤ _; have := hH.2.2.2.1; omega)) hpre
  obtain ⟨mid, hmid⟩ := hA.above
  have hfr : (T.setTop g).frames = (.java g :: mid) ++ X.below := by rw [State.frames_setTop' g hA.top, hmid]; rfl
  obtain ⟨oc, s₂, hsteps, hrun, hend, hq⟩ := Steps.callFree hM X.p S.admits S.cas S.clock (acts := []) hfr happ ⟨rfl, hH, o.2.1.2.2.1.warm S.warmed⟩ trivial
  rw [State.frames_setTop' g hA.top] at hend
  obtain ⟨hW₂, h', L, k, n, q1, q2, ⟨e2, r2, r3, r4, r5, r6⟩, q4, q5, q6⟩ := hq
  have hW' : T.WarmedH s₂.vm := hW₂
  have e3 : s₂ = ({ (T.calling g mk as.toArray).setFrames s₂.frames with heap := s₂.heap, slotsUsed := s₂.slotsUsed } : State).setVm s₂.vm := by
    have : s₂ = ({ s₂ with vm := (T.calling g mk as.toArray).vm } : State).setVm s₂.vm := rfl
    have e2' : ({ s₂ with vm := (T.calling g mk as.toArray).vm } : State) = { (T.calling g mk as.toArray).setFrames s₂.frames with heap := s₂.heap, slotsUsed := s₂.slotsUsed } := e2
    rw [e2'] at this
    exact this
  obtain ⟨g₀, hg0⟩ := Option.isSome_iff_exists.mp hA.top
  obtain ⟨r, hr⟩ := State.topJava?_eq_some.mp hg0
  have hsame : T.sameButNew ({ T with heap := s₂.heap, slotsUsed := s₂.slotsUsed } : State) L k n := by
    refine ⟨?_, r2, r3, r4, r5, r6⟩
    obtain ⟨t, ht, -⟩ := State.frames_cons hr
    show ({ T with heap := s₂.heap, slotsUsed := s₂.slotsUsed } : State) = { T.setFrames T.frames with heap := s₂.heap, slotsUsed := s₂.slotsUsed }
    rw [State.setFrames_self ht]
  have S' : Stand X.p X.G.l X.e X.R X.s X.m X.args X.below X.meth X.c (({ T with heap := s₂.heap, slotsUsed := s₂.slotsUsed } : State).setVm s₂.vm) (locs ++ L) (cells + k) (slots + n) :=
    ⟨S.admits, S.cas, S.clock, S.frames, S.room, S.hears, S.method, S.code, (S.here.setHeapUsed s₂.heap s₂.slotsUsed).setVm hW'.alike, S.tail, State.WarmedH.trans S.warmed hW', S.limits, S.bytes, S.same.trans (hsame.setVm X.s.vm)⟩
  have hl' : ∀ q ∈ locs ++ L, X.G.b ≤ q.base := fun q hq => by
    rcases List.mem_append.mp hq with z | z
    · exact h3 q z
    · exact q4 q z
  have hr' : (({ T with heap := s₂.heap, slotsUsed := s₂.slotsUsed } : State).setVm s₂.vm).frames = .java g₀ :: r := hr
  cases oc with
  | returned v =>
    obtain ⟨c₂, i₂, len₂, hc₂, hd₂, hf₂⟩ := hend
    have hcc : c₂ = X.c := by
      have h1 : s₂.code? g.method = T.code? g.method := by
        rw [State.code?_eq, State.code?_eq, hW'.alike.method?]
      exact Option.some.inj (hc₂.symm.trans (h1.trans hA.code))
    subst hcc
    have hlen : len₂ = 3 := by rw [hdg] at hd₂; cases hd₂; rfl
    subst hlen
    have hs₂ : s₂ = (({ T with heap := s₂.heap, slotsUsed := s₂.slotsUsed } : State).setVm s₂.vm).setTop { g with pc := g.pc + 3, stack := v.toList ++ g.stack } := by
      refine e3.trans ?_
      rw [hf₂, State.calling_eq hA.top, State.setFrames_setFrames, State.setTop_of_frames _ hr', hr]
      rfl
    obtain ⟨t, c1, c2⟩ := kr v h' (({ T with heap := s₂.heap, slotsUsed := s₂.slotsUsed } : State).setVm s₂.vm) (locs ++ L) (cells + k) (slots + n) q2 q1 S' hl' (by omega) (by omega)
    refine ⟨t, hsteps.trans ?_, c2⟩
    rw [← hs₂] at c1
    exact c1
  | threw a =>
    have hf₂ : s₂.frames = .throwing a :: .java g :: T.frames.tail := hend
    have hs₂ : s₂ = ((({ T with heap := s₂.heap, slotsUsed := s₂.slotsUsed } : State).setVm s₂.vm).setTop g).pushFrame (.throwing a) := by
      refine e3.trans ?_
      have e5 := State.frames_setTop' (s := (({ T with heap := s₂.heap, slotsUsed := s₂.slotsUsed } : State).setVm s₂.vm)) g S'.here.top
      rw [State.pushFrame, e5, State.setTop_of_frames _ hr', State.setFrames_setFrames, hf₂, State.calling_eq hA.top, State.setFrames_setFrames]
      rfl
    obtain ⟨t, c1, c2⟩ := kt a h' (({ T with heap := s₂.heap, slotsUsed := s₂.slotsUsed } : State).setVm s₂.vm) (locs ++ L) (cells + k) (slots + n) q2 q1 S' hl' (by omega) (by omega)
    refine ⟨t, hsteps.trans ?_, c2⟩
    rw [← hs₂] at c1
    exact c1
