/-! a call within a try: what is thrown comes to the handler -/
theorem find_cold {e : Env} {s : State} {f : JFrame} {a : Addr} {x : ExceptionTableEntry} {c : ClassId} {cell : Cell} {vm' : Vm} {Q : Handler → Pre} {E : CtlPost} {d : Bool} {acts : List Action} (hx : covers x f.pc = true) (h0 : x.catchType ≠ 0)
    (hg : (Jvm.resolveClass f.method.cls x.catchType).Gives e.toSetting s.vm (.ok c) vm') (hsz : vm'.classes.size ≤ s.vm.classes.size) (hcell : s.heap[a]? = some cell) (hobj : ∀ k, cell.vm ≠ .statics k)
    (hk : ∃ k, vm'.classes[cell.cls]? = some k) (hc : ∃ k, vm'.classes[c]? = some k) (hfit : vm'.assignable cell.cls c = true) :
    wp (findHandler.go f a [x]) Q E e d acts s ↔ Q (.found x.handlerPc) d acts (s.setVm vm') := by
  simp only [covers] at hx
  have hop : (VmOp.resolveClass f.method.cls x.catchType).answer e s.vm = .ok c ∧ (VmOp.resolveClass f.method.cls x.catchType).tables e s.vm = vm' := hg.op rfl
  simp [findHandler.go, hx, h0, hop, VmOp.lands_eq hop.2 hsz, hcell, hobj, hk, hc, hfit, VmOp.dirties, VmOp.acts]
theorem step_cold {e : Env} {s : State} {f : JFrame} {a : Addr} {r : List Frame} {x : ExceptionTableEntry} {c : ClassId} {cell : Cell} {vm' : Vm} {meth : Method} {code : Code} (hm : s.vm.method? f.method = some meth) (hcd : meth.code = some code) (ht : code.exceptionTable.toList = [x]) (hx : covers x f.pc = true) (h0 : x.catchType ≠ 0)
    (hg : (Jvm.resolveClass f.method.cls x.catchType).Gives e.toSetting s.vm (.ok c) vm') (hsz : vm'.classes.size ≤ s.vm.classes.size) (hcell : s.heap[a]? = some cell) (hobj : ∀ k, cell.vm ≠ .statics k)
    (hk : ∃ k, vm'.classes[cell.cls]? = some k) (hc : ∃ k, vm'.classes[c]? = some k) (hfit : vm'.assignable cell.cls c = true) :
    (stepThrowing e s a (.java f :: r)).Is ((s.setVm vm').setFrames (.java { f with pc := x.handlerPc, stack := [.ref a] } :: r)) [] := by
  simp only [stepThrowing, searchFrame, vmDo]
  generalize hr : Sem.go _ e false [] s = res
  have hfind : ∀ (Q : Handler → Pre) (E : CtlPost) (d : Bool) (acts : List Action), wp (findHandler f a) Q E e d acts s ↔ Q (.found x.handlerPc) d acts (s.setVm vm') := fun Q E d acts => by
    rw [W.findHandler_eq hm hcd, ht]
    exact find_cold hx h0 hg hsz hcell hobj hk hc hfit
  obtain ⟨as, rfl, ha⟩ := Sem.eq_ok_of hr (a := Handler.found x.handlerPc) (s' := s.setVm vm') (acts' := []) (by simp [hfind _ _ _ _])
  exact ⟨rfl, ha⟩
theorem steps_cold {tb : Tables} {e : Env} {s target : State} {g : JFrame} {c : Code} {below : List Frame} {a : Addr} (h : At s g.method c below) {x : ExceptionTableEntry} {cc : ClassId} {cell : Cell} {vm' : Vm} {meth : Method} (hm : s.vm.method? g.method = some meth) (hcd : meth.code = some c) (ht : c.exceptionTable.toList = [x]) (hx : covers x g.pc = true) (h0 : x.catchType ≠ 0)
    (hg : (Jvm.resolveClass g.method.cls x.catchType).Gives e.toSetting s.vm (.ok cc) vm') (hsz : vm'.classes.size ≤ s.vm.classes.size) (hcell : s.heap[a]? = some cell) (hobj : ∀ k, cell.vm ≠ .statics k)
    (hk : ∃ k, vm'.classes[cell.cls]? = some k) (hc : ∃ k, vm'.classes[cc]? = some k) (hfit : vm'.assignable cell.cls cc = true)
    (hrest : Steps tb e below ((s.setVm vm').setTop { g with pc := x.handlerPc, stack := [.ref a] }) target) : Steps tb e below ((s.setTop g).pushFrame (.throwing a)) target := by
  obtain ⟨hgo, hw⟩ := h.throwing a
  refine Steps.head hgo hw ?_
  rw [stepThread_throwing (frames_entered h.top _), (step_cold (s := (s.setTop g).pushFrame (.throwing a)) (c := cc) (cell := cell) (vm' := vm') (by rw [Stand.throwing_vm]; exact hm) hcd ht hx h0 (by rw [Stand.throwing_vm]; exact hg) (by rw [Stand.throwing_vm]; exact hsz) (by rw [Stand.throwing_heap]; exact hcell) hobj hk hc hfit).1]
  obtain ⟨g₀, hg0⟩ := Option.isSome_iff_exists.mp h.top
  obtain ⟨r, hr⟩ := State.topJava?_eq_some.mp hg0
  have hr' : (s.setVm vm').frames = .java g₀ :: r := hr
  rw [State.setTop_of_frames _ hr'] at hrest
  rw [State.pushFrame, State.setTop_of_frames _ hr, State.setFrames_setFrames, hr]
  show Steps tb e below (((s.setVm vm').setFrames (Frame.throwing a :: (s.setFrames (Frame.java g :: r)).frames)).setFrames (Frame.java { g with pc := x.handlerPc, stack := [.ref a] } :: r)) target
  rw [State.setFrames_setFrames]
  exact hrest
/-- behind a call within a try: it goes on, or an object of class t comes to the handler -/
def ktr (nx hx : Ct) (t : Nat) (L r : List Value) : Outcome → AH → Prop := fun o h' => match o with
  | .returned v => nx L (v.toList ++ r) h'
  | .threw a => h'.tag a = some (t, 0) ∧ hx L [.ref a] h'
theorem v_invt {E : Et} {X : Xt} (o : OK E X) {K : Outcome → AH → Prop} {pc : Nat} {L r : List Value} {h : AH} {i n t t1 b : Nat} {M : Et} {r0 r1 : vw_C} {x : ExceptionTableEntry} {st as : List Value} (hd : decode E.cc pc = .ok (.invokevirtual i, 3)) (hk : MK M n) (hl : ML E i M) (hc : cl_[t]? = some r0) (hlt : t < 64) (hi : Cond.instanceMethod M.y ∈ lw_all) (hsl : Cond.selects r0.1 M.y M.y ∈ lw_all)
    (htb : tableOf E.hh = [x]) (hcv : covers x pc = true) (hx0 : x.catchType ≠ 0) (hcl : Cond.classLink E.y.cls x.catchType r1.1 ∈ lw_all) (hc1 : cl_[t1]? = some r1) (hlt1 : t1 < 64)
    (hd1 : 1 ≤ X.d) (hn : Nat.ble n st.length = true) (ha : (st.take n).reverse = as) (hr : st.drop n = .ref b :: r) (hs : Nat.ble r.length 12 = true) (ht : h.tag b = some (t, 0))
    (H : MW X.G (X.d - 1) M (.ref b :: as) h (ktr (V X K (pc + 3)) (V X K x.handlerPc) t1 L r)) : V X K pc L st h := by
  subst ha
  have b2 : n ≤ st.length := Nat.le_of_ble_eq_true hn
  have b3 : (r.map fun v => v.category).sum ≤ 24 := by
    have h1 : r.length ≤ 12 := Nat.le_of_ble_eq_true hs
    have h2 : ∀ l : List Value, (l.map fun v => v.category).sum ≤ 2 * l.length := fun l => by
      induction l with
      | nil => exact Nat.le_refl _
      | cons v l ih =>
        have : v.category ≤ 2 := by cases v <;> first | exact Nat.le_refl 2 | exact Nat.le_succ 1
        simp only [List.map_cons, List.sum_cons, List.length_cons]; omega
    have := h2 r; omega
  intro H0 locs cells slots ls h1 h2 h3 h4 h5
  intro T hT S
  obtain ⟨m1, m2, m3, m4, m5⟩ := hk
  have hts := o.2.1.2.1
  obtain ⟨mk, methM, hnamed, hmethM, hstM, habM⟩ := Cond.instanceMethod_spec (hts _ hi)
  obtain ⟨methM', cM, hmethM', -, -, -, -, -, -, hsigM⟩ := cw_spec hnamed (hts _ m2)
  cases hmethM.symm.trans hmethM'
  obtain ⟨cellB, hcB, hoB, hclB⟩ := rcv_of o.2.1.2.2.1 h1 ht hlt hc
  obtain ⟨c2, r2, mm2, q1, q2, q3, q4, kP, hkP, hkPi⟩ := Cond.selects_spec (hts _ hsl)
  cases hclB.symm.trans q1
  cases (State.methodFound?_of_named hnamed m4).symm.trans q2
  cases hnamed.symm.trans q3
  have hselP : selectMethod X.e.platform X.s.vm cellB.cls mk = .method mk := by rw [Launch.admits_selectMethod S.admits]; exact q4
  have hlen : (st.take n).reverse.length = methM.sig.parameters.length := by
    rw [hsigM] at m5
    have : methM.sig.parameters.length = n := Option.some.inj m5
    rw [this]; simp; omega
  have hstack : (F0 X.m pc ls st).stack = (st.take n).reverse.reverse ++ .ref b :: r := by rw [← hr]; simp
  have hdg : decode X.c.code (F0 X.m pc ls st).pc = .ok (.invokevirtual i, 3) := by rw [o.1.2.1]; exact hd
  have hcT : T.heap[b]? = some cellB := by rw [hT]; exact hcB
  have fin : ∀ vm₁, Stand X.p X.G.l X.e X.R X.s X.m X.args X.below X.meth X.c (T.setVm vm₁) locs cells slots → ∃ t, Steps X.p.tables X.e X.below (doInvoke X.e ((T.setVm vm₁).setTop (F0 X.m pc ls r)) [] mk (Value.ref b :: (st.take n).reverse).toArray).1 t ∧ QF X K t := fun vm₁ S₁ => by
    refine inv_core o H (by omega) m1 m2 m3 S₁ (by show HR X.G h T.heap; rw [hT]; exact h1) h3 h4 h5 (g := F0 X.m pc ls r) rfl h2.size (ig := .invokevirtual i) (by rw [o.1.2.1]; exact hd) (by show 2 * 0 + (r.map fun v => v.category).sum ≤ 24; omega) (S₁.named hnamed) ?_ ?_
    · intro v h' T' locs' cells' slots' hk hH' S' h3' h4' h5'
      have hk : V X K (pc + 3) L (v.toList ++ r) h' := hk
      exact hk T'.heap locs' cells' slots' ls hH' h2 h3' h4' h5' T' rfl S'
    · intro a h' T' locs' cells' slots' hk hH' S' h3' h4' h5'
      obtain ⟨hta, hv⟩ : h'.tag a = some (t1, 0) ∧ V X K x.handlerPc L [.ref a] h' := hk
      obtain ⟨cellA, hcA, hoA, hclA⟩ := rcv_of o.2.1.2.2.1 hH' hta hlt1 hc1
      have hpl : X.e.platform.magicAccessors = ({} : Platform).magicAccessors := by rw [S'.admits.platform]
      obtain ⟨c', hc', hcl'⟩ := Cond.classLink_spec o.2.1.1 (hts _ hcl) X.e.platform hpl
      cases hclA.symm.trans hc'
      obtain ⟨dk, _, _, kt, hdk, _, _, _, _, hkt, _, hopen⟩ := hcl'.here
      have hcl₀ := S'.warmed.classLinks hcl'
      have hW' : X.s.WarmedH (T'.vm.noted X.m.cls x.catchType (.cls cellA.cls)) := S'.warmed.noted hdk hopen (State.rightAt_cls hcl')
      obtain ⟨kt', hkt', -⟩ := hW'.alike.2.2 _ _ hkt
      have S₂ := S'.noted hW'
      obtain ⟨t, c1, c2⟩ := hv T'.heap locs' cells' slots' ls hH' h2 h3' h4' h5' (T'.setVm (T'.vm.noted X.m.cls x.catchType (.cls cellA.cls))) rfl S₂
      refine ⟨t, ?_, c2⟩
      refine steps_cold (g := F0 X.m pc ls r) (meth := X.meth) (cc := cellA.cls) (cell := cellA) (vm' := T'.vm.noted X.m.cls x.catchType (.cls cellA.cls)) S'.here S'.method' S'.code (by rw [o.2.1.2.2.2]; exact htb) hcv hx0 (resolveClass_links X.e.toSetting hcl₀) (by no_record) hcA (VmData.ne_statics_of hoA) ⟨kt', hkt'⟩ ⟨kt', hkt'⟩ ?_ c1
      show Vm.assignableAux _ (255 + 1) _ _ = true
      rw [Vm.assignableAux]; simp
  rcases hl with hl | ⟨host, hl⟩
  · obtain ⟨vm₁, S₁, hstep₁⟩ := S.invokevirtual o.1.1 o.2.1.1 (hts _ hl) hnamed hmethM hstM hkP hkPi m4 (a := b) (cell := cellB) hcT (fun z h => by rw [h] at hoB; cases hoB) hselP hmethM habM hkP hkPi (g := F0 X.m pc ls st) rfl (argsL := (st.take n).reverse) (rest := r) hlen hstack hdg
    obtain ⟨t, c1, c2⟩ := fin vm₁ S₁
    exact ⟨t, hstep₁ _ fun acts => by rw [doInvoke_state]; exact c1, c2⟩
  · obtain ⟨vm₁, S₁, hstep₁⟩ := S.invokevirtualNest o.1.1 o.2.1.1 (va_Nw.use rfl (o.2.1.2.2.1.2.1 _ hl)) hnamed hmethM hstM hkP hkPi m4 (a := b) (cell := cellB) hcT (fun z h => by rw [h] at hoB; cases hoB) hselP hmethM habM hkP hkPi (g := F0 X.m pc ls st) rfl (argsL := (st.take n).reverse) (rest := r) hlen hstack hdg
    obtain ⟨t, c1, c2⟩ := fin vm₁ S₁
    exact ⟨t, hstep₁ _ fun acts => by rw [doInvoke_state]; exact c1, c2⟩
set_option maxRecDepth 100000
theorem k_X12_readInto_12 {X : Xt} (o : OK e_X12_readInto X) {K : Outcome → AH → Prop} {h : AH} {l0 : Nat} {x3 : Int32} {l1 l2 : Value}  (H : MW X.G (X.d - 1) e_X12_module [.ref l0] (((h.sI 1410 l0 (nI 0)).sI 1412 l0 (nI 0)).sI 1413 l0 x3) (ktr (V X K 34) (V X K 45) 30 [.ref l0, l1, l2] [])) (t1 : h.tag l0 = some (11, 0) := by assumption) (r2 : h.I 1409 l0 = x3 := by first | assumption | rfl) (hd : 1 ≤ X.d := by omega) : V X K 12 [.ref l0, l1, l2] [] h := have hs : gb cX12_readInto 12 = some 42 ∧ gb cX12_readInto 13 = some 3 ∧ gb cX12_readInto 14 = some 181 ∧ gb cX12_readInto 15 = some 0 ∧ gb cX12_readInto 16 = some 40 ∧ gb cX12_readInto 17 = some 42 ∧ gb cX12_readInto 18 = some 3 ∧ gb cX12_readInto 19 = some 181 ∧ gb cX12_readInto 20 = some 0 ∧ gb cX12_readInto 21 = some 29 ∧ gb cX12_readInto 22 = some 42 ∧ gb cX12_readInto 23 = some 42 ∧ gb cX12_readInto 24 = some 180 ∧ gb cX12_readInto 25 = some 0 ∧ gb cX12_readInto 26 = some 43 ∧ gb cX12_readInto 27 = some 181 ∧ gb cX12_readInto 28 = some 0 ∧ gb cX12_readInto 29 = some 33 ∧ gb cX12_readInto 30 = some 42 ∧ gb cX12_readInto 31 = some 182 ∧ gb cX12_readInto 32 = some 1 ∧ gb cX12_readInto 33 = some 2 ∧ True := sg_of (l := [42, 3, 181, 0, 40, 42, 3, 181, 0, 29, 42, 42, 180, 0, 43, 181, 0, 33, 42, 182, 1, 2]) (by decide +kernel); v_aln o (dc_42 hs.1) rfl rfl (v_iconst (x := (nI 0)) o (dc_3 hs.2.1) rfl (v_pI o (dc_181 ⟨hs.2.2.1, hs.2.2.2.1, hs.2.2.2.2.1⟩) fd_1410 (lk_X12_40 _ rfl) (Or.inl rfl) t1 (v_aln o (dc_42 hs.2.2.2.2.2.1) rfl rfl (v_iconst (x := (nI 0)) o (dc_3 hs.2.2.2.2.2.2.1) rfl (v_pI o (dc_181 ⟨hs.2.2.2.2.2.2.2.1, hs.2.2.2.2.2.2.2.2.1, hs.2.2.2.2.2.2.2.2.2.1⟩) fd_1412 (lk_X12_29 _ rfl) (Or.inl rfl) t1 (v_aln o (dc_42 hs.2.2.2.2.2.2.2.2.2.2.1) rfl rfl (v_aln o (dc_42 hs.2.2.2.2.2.2.2.2.2.2.2.1) rfl rfl (v_gI (x := x3) o (dc_180 ⟨hs.2.2.2.2.2.2.2.2.2.2.2.2.1, hs.2.2.2.2.2.2.2.2.2.2.2.2.2.1, hs.2.2.2.2.2.2.2.2.2.2.2.2.2.2.1⟩) fd_1409 (lk_X12_43 _ rfl) t1 r2 (v_pI o (dc_181 ⟨hs.2.2.2.2.2.2.2.2.2.2.2.2.2.2.2.1, hs.2.2.2.2.2.2.2.2.2.2.2.2.2.2.2.2.1, hs.2.2.2.2.2.2.2.2.2.2.2.2.2.2.2.2.2.1⟩) fd_1413 (lk_X12_33 _ rfl) (Or.inl rfl) t1 (v_aln o (dc_42 hs.2.2.2.2.2.2.2.2.2.2.2.2.2.2.2.2.2.2.1) rfl rfl (v_invt (as := []) (r := []) (r0 := (RX12, TX12, 9)) (r1 := (RJ3, TJ3, 6)) (x := ⟨30, 42, 45, 15⟩) o (dc_182 ⟨hs.2.2.2.2.2.2.2.2.2.2.2.2.2.2.2.2.2.2.2.1, hs.2.2.2.2.2.2.2.2.2.2.2.2.2.2.2.2.2.2.2.2.1, hs.2.2.2.2.2.2.2.2.2.2.2.2.2.2.2.2.2.2.2.2.2.1⟩) mk_X12_module (ml_X12_258 _ rfl) rfl (by decide) q1168 qs1 rfl rfl (by decide) q639 rfl (by decide) hd rfl rfl rfl rfl t1 H)))))))))))
theorem k_X12_readInto_34 {X : Xt} (o : OK e_X12_readInto X) {K : Outcome → AH → Prop} {h : AH} {l0 : Nat} {l1 l2 : Value}  (H : MW X.G (X.d - 1) e_X12_bounds [.ref l0] h (ktr (V X K 38) (V X K 45) 30 [.ref l0, l1, l2] [])) (hd : 1 ≤ X.d := by omega) (t1 : h.tag l0 = some (11, 0) := by assumption) : V X K 34 [.ref l0, l1, l2] [] h := have hs : gb cX12_readInto 34 = some 42 ∧ gb cX12_readInto 35 = some 182 ∧ gb cX12_readInto 36 = some 1 ∧ gb cX12_readInto 37 = some 4 ∧ True := sg_of (l := [42, 182, 1, 4]) (by decide +kernel); v_aln o (dc_42 hs.1) rfl rfl (v_invt (as := []) (r := []) (r0 := (RX12, TX12, 9)) (r1 := (RJ3, TJ3, 6)) (x := ⟨30, 42, 45, 15⟩) o (dc_182 ⟨hs.2.1, hs.2.2.1, hs.2.2.2.1⟩) mk_X12_bounds (ml_X12_260 _ rfl) rfl (by decide) q1260 qs15 rfl rfl (by decide) q639 rfl (by decide) hd rfl rfl rfl rfl t1 H)
theorem k_X12_readInto_38 {X : Xt} (o : OK e_X12_readInto X) {K : Outcome → AH → Prop} {h : AH} {l0 : Nat} {l1 l2 : Value}  (H : MW X.G (X.d - 1) e_X12_itself [.ref l0] h (ktr (V X K 42) (V X K 45) 30 [.ref l0, l1, l2] [])) (hd : 1 ≤ X.d := by omega) (t1 : h.tag l0 = some (11, 0) := by assumption) : V X K 38 [.ref l0, l1, l2] [] h := have hs : gb cX12_readInto 38 = some 42 ∧ gb cX12_readInto 39 = some 182 ∧ gb cX12_readInto 40 = some 1 ∧ gb cX12_readInto 41 = some 7 ∧ True := sg_of (l := [42, 182, 1, 7]) (by decide +kernel); v_aln o (dc_42 hs.1) rfl rfl (v_invt (as := []) (r := []) (r0 := (RX12, TX12, 9)) (r1 := (RJ3, TJ3, 6)) (x := ⟨30, 42, 45, 15⟩) o (dc_182 ⟨hs.2.1, hs.2.2.1, hs.2.2.2.1⟩) mk_X12_itself (ml_X12_263 _ rfl) rfl (by decide) q1296 qs19 rfl rfl (by decide) q639 rfl (by decide) hd rfl rfl rfl rfl t1 H)
theorem k_X13_check_14 {X : Xt} (o : OK e_X13_check X) {K : Outcome → AH → Prop} {h : AH} {l0 : Nat} {l1 l2 l3 : Value}  (H : MW X.G (X.d - 1) e_X13_all [.ref l0] h (ktr (V X K 18) (V X K 21) 31 [.ref l0, l1, l2, l3] [])) (hd : 1 ≤ X.d := by omega) (t1 : h.tag l0 = some (12, 0) := by assumption) : V X K 14 [.ref l0, l1, l2, l3] [] h := have hs : gb cX13_check 14 = some 42 ∧ gb cX13_check 15 = some 182 ∧ gb cX13_check 16 = some 1 ∧ gb cX13_check 17 = some 91 ∧ True := sg_of (l := [42, 182, 1, 91]) (by decide +kernel); v_aln o (dc_42 hs.1) rfl rfl (v_invt (as := []) (r := []) (r0 := (RX13, TX13, 16)) (r1 := (RJ4, TJ4, 6)) (x := ⟨14, 18, 21, 42⟩) o (dc_182 ⟨hs.2.1, hs.2.2.1, hs.2.2.2.1⟩) mk_X13_all (ml_X13_347 _ rfl) rfl (by decide) q1892 qs71 rfl rfl (by decide) q763 rfl (by decide) hd rfl rfl rfl rfl t1 H)
theorem k_X1_go_10 {X : Xt} (o : OK e_X1_go X) {K : Outcome → AH → Prop} {h : AH} {l0 : Nat} {l1 : Value}  (H : MW X.G (X.d - 1) e_X1_instruction [.ref l0] h (ktr (V X K 14) (V X K 32) 31 [.ref l0, l1] [])) (hd : 1 ≤ X.d := by omega) (t1 : h.tag l0 = some (0, 0) := by assumption) : V X K 10 [.ref l0, l1] [] h := have hs : gb cX1_go 10 = some 42 ∧ gb cX1_go 11 = some 182 ∧ gb cX1_go 12 = some 2 ∧ gb cX1_go 13 = some 237 ∧ True := sg_of (l := [42, 182, 2, 237]) (by decide +kernel); v_aln o (dc_42 hs.1) rfl rfl (v_invt (as := []) (r := []) (r0 := (RX1, TX1, 34)) (r1 := (RJ4, TJ4, 6)) (x := ⟨0, 29, 32, 105⟩) o (dc_182 ⟨hs.2.1, hs.2.2.1, hs.2.2.2.1⟩) mk_X1_instruction (ml_X1_749 _ rfl) rfl (by decide) q1435 qs26 rfl rfl (by decide) q946 rfl (by decide) hd rfl rfl rfl rfl t1 H)
theorem k_X1_go_17 {X : Xt} (o : OK e_X1_go X) {K : Outcome → AH → Prop} {h : AH} {l0 x3 : Nat} {l1 : Value}  (H : MW X.G (X.d - 1) e_X1_beginTransaction [.ref l0] (h.sI 2436 x3 (nI 1)) (ktr (V X K 29) (V X K 32) 31 [.ref l0, l1] [])) (t1 : h.tag l0 = some (0, 0) := by assumption) (r2 : h.R 26 l0 = some x3 := by assumption) (t4 : h.tag x3 = some (19, 0) := by assumption) (z5 : (nI 1) = 0 ∨ (nI 1) = 1 := by first | assumption | exact Or.inl rfl | exact Or.inr rfl | exact bI_or _) (hd : 1 ≤ X.d := by omega) : V X K 17 [.ref l0, l1] [] h := have hs : gb cX1_go 17 = some 42 ∧ gb cX1_go 18 = some 180 ∧ gb cX1_go 19 = some 0 ∧ gb cX1_go 20 = some 177 ∧ gb cX1_go 21 = some 4 ∧ gb cX1_go 22 = some 181 ∧ gb cX1_go 23 = some 2 ∧ gb cX1_go 24 = some 234 ∧ gb cX1_go 25 = some 42 ∧ gb cX1_go 26 = some 182 ∧ gb cX1_go 27 = some 2 ∧ gb cX1_go 28 = some 240 ∧ True := sg_of (l := [42, 180, 0, 177, 4, 181, 2, 234, 42, 182, 2, 240]) (by decide +kernel); v_aln o (dc_42 hs.1) rfl rfl (v_gR (x := (some x3)) o (dc_180 ⟨hs.2.1, hs.2.2.1, hs.2.2.2.1⟩) fd_26 (lk_X1_177 _ rfl) t1 r2 (v_iconst (x := (nI 1)) o (dc_4 hs.2.2.2.2.1) rfl (v_pZ o (dc_181 ⟨hs.2.2.2.2.2.1, hs.2.2.2.2.2.2.1, hs.2.2.2.2.2.2.2.1⟩) fd_2436 (lk_X1_746 _ rfl) (Or.inl rfl) t4 z5 (v_aln o (dc_42 hs.2.2.2.2.2.2.2.2.1) rfl rfl (v_invt (as := []) (r := []) (r0 := (RX1, TX1, 34)) (r1 := (RJ4, TJ4, 6)) (x := ⟨0, 29, 32, 105⟩) o (dc_182 ⟨hs.2.2.2.2.2.2.2.2.2.1, hs.2.2.2.2.2.2.2.2.2.2.1, hs.2.2.2.2.2.2.2.2.2.2.2.1⟩) mk_X1_beginTransaction (ml_X1_752 _ rfl) rfl (by decide) q1799 qs63 rfl rfl (by decide) q946 rfl (by decide) hd rfl rfl rfl rfl t1 H)))))
