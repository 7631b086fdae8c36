/-- behind a call: it goes on, or the method throws too -/
def kin (nx : Ct) (K : Outcome → AH → Prop) (L r : List Value) : Outcome → AH → Prop := fun o h' => match o with
  | .returned v => nx L (v.toList ++ r) h'
  | .threw a => K (.threw a) h'
theorem cw_named {M : Et} {args : Array Value} {s : State} (h : (cw M).before args s = true) : ∃ m, s.methodNamed? M.y = some m := by
  unfold cw at h
  split at h
  · exact Cond.code_named h
  · obtain ⟨m', _, _, a0, _⟩ := Cond.codeWith_spec h
    exact ⟨m', a0⟩
theorem inv_fin {E : Et} {X : Xt} (o : OK E X) {M : Et} {d' : Nat} {as : List Value} {h : AH} {K : Outcome → AH → Prop} {nx : Ct} {L r : List Value} {pc : Nat} (k1 : ∀ L st h, nx L st h → V X K (pc + 3) L st h) (hM : MW X.G d' M as h (kin nx K L r)) (hd : d' + 1 ≤ X.d) (hml : M.ml ≤ 61) (hwm : cw M ∈ lw_all) (hin : Cond.initialized M.y.cls ∈ lw_all)
    {T : State} {locs : List Loc} {cells slots : Nat} (S : Stand X.p X.G.l X.e X.R X.s X.m X.args X.below X.meth X.c T locs cells slots) (hH : HR X.G h T.heap) (h3 : ∀ q ∈ locs, X.G.b ≤ q.base) (h4 : cells + X.n0 = h.n) (h5 : slots + X.z0 = h.z)
    {ls : Array Slot} (h2 : LX X.wd X.c.maxLocals ls L) {ig : Instr} (hdg : decode E.cc pc = .ok (ig, 3)) (hW : (r.map fun v => v.category).sum ≤ 24) (hh : (tableOf E.hh).all (fun x => !covers x pc) = true) {mk : MethodId} (hn : T.methodNamed? M.y = some mk) :
    ∃ t, Steps X.p.tables X.e X.below (doInvoke X.e (T.setTop (F0 X.m pc ls r)) [] mk as.toArray).1 t ∧ QF X K t := by
  refine inv_core o hM hd hml hwm hin S hH h3 h4 h5 (g := F0 X.m pc ls r) rfl h2.size (by rw [o.1.2.1]; exact hdg) (by show 2 * 0 + (r.map fun v => v.category).sum ≤ 24; omega) hn ?_ ?_
  · intro v h' T' locs' cells' slots' hk hH' S' h3' h4' h5'
    exact k1 _ _ _ hk T'.heap locs' cells' slots' ls hH' h2 h3' h4' h5' T' rfl S'
  · intro a h' T' locs' cells' slots' hk hH' S' h3' h4' h5'
    obtain ⟨b1, b2, b3, b4, b5⟩ := S'.leaveThrown a (g := F0 X.m pc ls r) rfl rfl rfl (outside_of_table o.2.1.2.2.2 hh) o.1.2.2.2.2.1
    exact ⟨_, b1, .threw a, b2, b3, b4, h', locs', cells', slots', hH', hk, b5, h3', h4', h5'⟩
/-- what every call asks of the method that is called -/
def MK (M : Et) (n : Nat) : Prop := M.ml ≤ 61 ∧ cw M ∈ lw_all ∧ Cond.initialized M.y.cls ∈ lw_all ∧ (M.y.cls ≠ "java/lang/invoke/MethodHandle" ∧ M.y.cls ≠ "java/lang/invoke/VarHandle") ∧ (parseMethodDescriptor M.y.desc).map (fun s => s.parameters.length) = some n
def w_invs (M : Et) (n : Nat) : Sm := fun G d _ nx _ K L st h => (1 ≤ d ∧ n ≤ st.length ∧ ((st.drop n).map fun v => v.category).sum ≤ 24) ∧ MW G (d - 1) M (st.take n).reverse h (kin nx K L (st.drop n))
theorem s_invs {E : Et} {pc i n : Nat} {M : Et} (hd : decode E.cc pc = .ok (.invokestatic i, 3)) (hk : MK M n) (hl : Cond.methodLink E.y.cls i M.y ∈ lw_all ∨ ∃ host, Cond.methodLinkNest E.y.cls i M.y host ∈ nst_) (hst : Cond.static M.y ∈ lw_all) (hh : (tableOf E.hh).all (fun x => !covers x pc) = true) : Snd E pc (w_invs M n) (pc + 3) := by
  intro X o nx jp K k1 k2 L st h hw
  obtain ⟨⟨b1, b2, b3⟩, hM⟩ := hw
  intro H locs cells slots ls h1 h2 h3 h4 h5
  intro T hT S
  obtain ⟨m1, m2, m3, m4, m5⟩ := hk
  have hts := o.2.1.2.1
  obtain ⟨mk, hnamed⟩ := cw_named (hts _ m2)
  obtain ⟨methM, cM, hmethM, -, -, -, -, -, -, hsigM⟩ := cw_spec hnamed (hts _ m2)
  have hstatic : methM.isStatic = true := Cond.static_spec hnamed hmethM (hts _ hst)
  obtain ⟨kP, hkP, -⟩ := className_of_methodNamed hnamed
  have hinitP : kP.init = .initialized := Cond.initialized_spec (findClass_of_methodNamed hnamed) hkP (hts _ m3)
  have hlen : (st.take n).reverse.length = methM.sig.parameters.length := by
    rw [hsigM] at m5
    have : methM.sig.parameters.length = n := Option.some.inj m5
    rw [this]; simp; omega
  have hstack : (F0 X.m pc ls st).stack = (st.take n).reverse.reverse ++ st.drop n := by simp
  have hdg : decode X.c.code (F0 X.m pc ls st).pc = .ok (.invokestatic i, 3) := by rw [o.1.2.1]; exact hd
  have fin : ∀ vm₁, Stand X.p X.G.l X.e X.R X.s X.m X.args X.below X.meth X.c (T.setVm vm₁) locs cells slots → ∃ t, Steps X.p.tables X.e X.below (doInvoke X.e ((T.setVm vm₁).setTop (F0 X.m pc ls (st.drop n))) [] mk (st.take n).reverse.toArray).1 t ∧ QF X K t := fun vm₁ S₁ =>
    inv_fin o k1 hM (by omega) m1 m2 m3 S₁ (by show HR X.G h T.heap; rw [hT]; exact h1) h3 h4 h5 h2 hd b3 hh (S₁.named hnamed)
  rcases hl with hl | ⟨host, hl⟩
  · obtain ⟨vm₁, S₁, hstep₁⟩ := S.invokestatic o.1.1 o.2.1.1 (hts _ hl) hnamed hmethM hstatic hkP hinitP m4 (g := F0 X.m pc ls st) rfl (argsL := (st.take n).reverse) (rest := st.drop n) hlen hstack hdg
    obtain ⟨t, c1, c2⟩ := fin vm₁ S₁
    exact ⟨t, hstep₁ _ fun acts => by rw [doInvoke_state]; exact c1, c2⟩
  · obtain ⟨vm₁, S₁, hstep₁⟩ := S.invokestaticNest o.1.1 o.2.1.1 (va_Nw.use rfl (o.2.1.2.2.1.2.1 _ hl)) hnamed hmethM hstatic hkP hinitP m4 (g := F0 X.m pc ls st) rfl (argsL := (st.take n).reverse) (rest := st.drop n) hlen hstack hdg
    obtain ⟨t, c1, c2⟩ := fin vm₁ S₁
    exact ⟨t, hstep₁ _ fun acts => by rw [doInvoke_state]; exact c1, c2⟩
/-- a call through an object: n arguments above it, it is of class t -/
def w_invv (M : Et) (n t : Nat) : Sm := fun G d _ nx _ K L st h => match st.drop n with
  | .ref b :: r => (1 ≤ d ∧ n ≤ st.length ∧ h.tag b = some (t, 0) ∧ (r.map fun v => v.category).sum ≤ 24) ∧ MW G (d - 1) M (.ref b :: (st.take n).reverse) h (kin nx K L r)
  | _ => False
theorem rcv_of {G : Gt} {U : State} {h : AH} {H : Heap} {b t : Nat} {r : vw_C} (hK : KW G U) (hH : HR G h H) (ht : h.tag b = some (t, 0)) (hlt : t < 64) (hc : cl_[t]? = some r) : ∃ cell : Cell, H[b]? = some cell ∧ cell.vm.isStatics = false ∧ U.vm.findClass r.1 = some cell.cls := by
  obtain ⟨r', e1, cell, q1, q2, q3, -⟩ := (hH.2.2.2.2.2 b t 0 ht).1 hlt
  cases hc.symm.trans e1
  exact ⟨cell, q1, by rw [q3]; rfl, by rw [q2]; exact (hK.1.1 t r hc).2.1⟩
theorem s_invv {E : Et} {pc i n t : Nat} {M : Et} {r0 : vw_C} (hd : decode E.cc pc = .ok (.invokevirtual i, 3)) (hk : MK M n) (hl : Cond.methodLink E.y.cls i M.y ∈ lw_all ∨ ∃ host, Cond.methodLinkNest E.y.cls i M.y host ∈ nst_) (hc : cl_[t]? = some r0) (hlt : t < 64) (hi : Cond.instanceMethod M.y ∈ lw_all) (hs : Cond.selects r0.1 M.y M.y ∈ lw_all) (hh : (tableOf E.hh).all (fun x => !covers x pc) = true) : Snd E pc (w_invv M n t) (pc + 3) := by
  intro X o nx jp K k1 k2 L st h hw
  unfold w_invv at hw
  split at hw
  · next b r hb =>
    obtain ⟨⟨b1, b2, b4, b3⟩, hM⟩ := hw
    intro H locs cells slots ls h1 h2 h3 h4 h5
    intro T hT S
    obtain ⟨m1, m2, m3, m4, m5⟩ := hk
    have hts := o.2.1.2.1
    obtain ⟨mk, methM, hnamed, hmethM, hstM, habM⟩ := Cond.instanceMethod_spec (hts _ hi)
    obtain ⟨methM', cM, hmethM', -, -, -, -, -, -, hsigM⟩ := cw_spec hnamed (hts _ m2)
    cases hmethM.symm.trans hmethM'
    obtain ⟨cellB, hcB, hoB, hclB⟩ := rcv_of o.2.1.2.2.1 h1 b4 hlt hc
    obtain ⟨c2, r2, mm2, q1, q2, q3, q4, kP, hkP, hkPi⟩ := Cond.selects_spec (hts _ hs)
    cases hclB.symm.trans q1
    cases (State.methodFound?_of_named hnamed m4).symm.trans q2
    cases hnamed.symm.trans q3
    have hselP : selectMethod X.e.platform X.s.vm cellB.cls mk = .method mk := by rw [Launch.admits_selectMethod S.admits]; exact q4
    have hlen : (st.take n).reverse.length = methM.sig.parameters.length := by
      rw [hsigM] at m5
      have : methM.sig.parameters.length = n := Option.some.inj m5
      rw [this]; simp; omega
    have hstack : (F0 X.m pc ls st).stack = (st.take n).reverse.reverse ++ .ref b :: r := by rw [← hb]; simp
    have hdg : decode X.c.code (F0 X.m pc ls st).pc = .ok (.invokevirtual i, 3) := by rw [o.1.2.1]; exact hd
    have hcT : T.heap[b]? = some cellB := by rw [hT]; exact hcB
    have fin : ∀ vm₁, Stand X.p X.G.l X.e X.R X.s X.m X.args X.below X.meth X.c (T.setVm vm₁) locs cells slots → ∃ t, Steps X.p.tables X.e X.below (doInvoke X.e ((T.setVm vm₁).setTop (F0 X.m pc ls r)) [] mk (Value.ref b :: (st.take n).reverse).toArray).1 t ∧ QF X K t := fun vm₁ S₁ =>
      inv_fin o k1 hM (by omega) m1 m2 m3 S₁ (by show HR X.G h T.heap; rw [hT]; exact h1) h3 h4 h5 h2 hd b3 hh (S₁.named hnamed)
    rcases hl with hl | ⟨host, hl⟩
    · obtain ⟨vm₁, S₁, hstep₁⟩ := S.invokevirtual o.1.1 o.2.1.1 (hts _ hl) hnamed hmethM hstM hkP hkPi m4 (a := b) (cell := cellB) hcT (fun z h => by rw [h] at hoB; cases hoB) hselP hmethM habM hkP hkPi (g := F0 X.m pc ls st) rfl (argsL := (st.take n).reverse) (rest := r) hlen hstack hdg
      obtain ⟨t, c1, c2⟩ := fin vm₁ S₁
      exact ⟨t, hstep₁ _ fun acts => by rw [doInvoke_state]; exact c1, c2⟩
    · obtain ⟨vm₁, S₁, hstep₁⟩ := S.invokevirtualNest o.1.1 o.2.1.1 (va_Nw.use rfl (o.2.1.2.2.1.2.1 _ hl)) hnamed hmethM hstM hkP hkPi m4 (a := b) (cell := cellB) hcT (fun z h => by rw [h] at hoB; cases hoB) hselP hmethM habM hkP hkPi (g := F0 X.m pc ls st) rfl (argsL := (st.take n).reverse) (rest := r) hlen hstack hdg
      obtain ⟨t, c1, c2⟩ := fin vm₁ S₁
      exact ⟨t, hstep₁ _ fun acts => by rw [doInvoke_state]; exact c1, c2⟩
  · exact hw.elim
/-- a constructor's call -/
def w_invi (M : Et) (n : Nat) : Sm := fun G d _ nx _ K L st h => match st.drop n with
  | .ref b :: r => (1 ≤ d ∧ n ≤ st.length ∧ (r.map fun v => v.category).sum ≤ 24) ∧ MW G (d - 1) M (.ref b :: (st.take n).reverse) h (kin nx K L r)
  | _ => False
theorem s_invi {E : Et} {pc i n : Nat} {M : Et} (hd : decode E.cc pc = .ok (.invokespecial i, 3)) (hk : MK M n) (hl : Cond.methodLink E.y.cls i M.y ∈ lw_all ∨ ∃ host, Cond.methodLinkNest E.y.cls i M.y host ∈ nst_) (hi : Cond.instanceMethod M.y ∈ lw_all) (hn1 : M.y.name = "<init>") (hm : M.hh = [] ∧ M.ret = none) (hh : (tableOf E.hh).all (fun x => !covers x pc) = true) : Snd E pc (w_invi M n) (pc + 3) := by
  intro X o nx jp K k1 k2 L st h hw
  unfold w_invi at hw
  split at hw
  · next b r hb =>
    obtain ⟨⟨b1, b2, b3⟩, hM⟩ := hw
    intro H locs cells slots ls h1 h2 h3 h4 h5
    intro T hT S
    obtain ⟨m1, m2, m3, m4, m5⟩ := hk
    have hts := o.2.1.2.1
    have hcode : (Cond.code M.y M.cc M.ml none).before X.args X.s = true := by
      have := hts _ m2
      unfold cw at this
      rw [if_pos hm.1, hm.2] at this
      exact this
    have hpl : X.e.platform.magicAccessors = ({} : Platform).magicAccessors := by rw [S.admits.platform]
    have hlen : ∀ sig, parseMethodDescriptor M.y.desc = some sig → (st.take n).reverse.length = sig.parameters.length := by
      intro sig hsig
      rw [hsig] at m5
      have : sig.parameters.length = n := Option.some.inj m5
      rw [this]; simp; omega
    have hstack : (F0 X.m pc ls st).stack = (st.take n).reverse.reverse ++ .ref b :: r := by rw [← hb]; simp
    have hdg : decode X.c.code (F0 X.m pc ls st).pc = .ok (.invokespecial i, 3) := by rw [o.1.2.1]; exact hd
    rcases hl with hl | ⟨host, hl⟩
    · obtain ⟨mk, methM, cM, kP, vm₁, hnamed, hmethM, hcodeM, -, hlocalsM, -, hkP, -, hW₁, hstep₁⟩ := Steps.initColdArgs (e := X.e) (tb := X.p.tables) S.here o.1.1 S.warmed hpl o.2.1.1 hn1 m4 (hts _ hl) (hts _ hi) hcode (f := F0 X.m pc ls st) rfl hlen hstack hdg
      have S₁ := S.noted hW₁
      obtain ⟨t, c1, c2⟩ := inv_fin (mk := mk) o k1 hM (by omega) m1 m2 m3 S₁ (by show HR X.G h T.heap; rw [hT]; exact h1) h3 h4 h5 h2 hd b3 hh (S₁.named hnamed)
      exact ⟨t, hstep₁ _ fun acts => by rw [doInvoke_state]; exact c1, c2⟩
    · obtain ⟨mk, methM, cM, kP, vm₁, hnamed, hmethM, hcodeM, -, hlocalsM, -, hkP, -, hW₁, hstep₁⟩ := Steps.initColdArgsNest (e := X.e) (tb := X.p.tables) S.here o.1.1 S.warmed hpl o.2.1.1 hn1 m4 (va_Nw.use rfl (o.2.1.2.2.1.2.1 _ hl)) (hts _ hi) hcode (f := F0 X.m pc ls st) rfl hlen hstack hdg
      have S₁ := S.noted hW₁
      obtain ⟨t, c1, c2⟩ := inv_fin (mk := mk) o k1 hM (by omega) m1 m2 m3 S₁ (by show HR X.G h T.heap; rw [hT]; exact h1) h3 h4 h5 h2 hd b3 hh (S₁.named hnamed)
      exact ⟨t, hstep₁ _ fun acts => by rw [doInvoke_state]; exact c1, c2⟩
  · exact hw.elim
