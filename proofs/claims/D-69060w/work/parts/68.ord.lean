/-! the ordinal of a form: a method that the enum inherits -/
theorem v_gFp {E : Et} {X : Xt} (o : OK E X) {K : Outcome → AH → Prop} {pc : Nat} {L r : List Value} {h : AH} {i j k a : Nat} {C n : String} {l : List Int32} (hd : decode E.cc pc = .ok (.getfield i, 3)) (hl : Cond.fieldLink E.y.cls i C n "I" ∈ lw_all) (hj : ffl_[j]? = some (C, n, "I", l)) (ha : a = X.G.ad k) (hk : k < 11) (H : V X K (pc + 3) L (.int (l.getD k 0) :: r) h) : V X K pc L (.ref a :: r) h := by
  intro Hp locs cells slots ls h1 h2 h3 h4 h5
  subst ha
  obtain ⟨cf, k', fi, f, cell, z1, z2, z3, z4, z5, z6⟩ := (o.2.1.2.2.1.2.2.2.1.1 k hk).2.2 _ (List.mem_of_getElem? hj)
  intro T hT S
  obtain ⟨vm', X', st⟩ := S.getfield o.1.1 o.2.1.1 (o.2.1.2.1 _ hl) z1 z2 (a := X.G.ad k) (cell := cell) (by rw [hT, h1.2.1.2 _ (Nat.not_le.mp z6)]; exact z3) z4 z5 (g := F0 X.m pc ls (.ref (X.G.ad k) :: r)) rfl rfl (by rw [o.1.2.1]; exact hd)
  obtain ⟨t, a1, b1⟩ := H Hp locs cells slots ls h1 h2 h3 h4 h5 (T.setVm vm') hT X'
  exact ⟨t, st t a1, b1⟩
theorem ordinal_ok {G : Gt} {d : Nat} {h : AH} {K : Outcome → AH → Prop} {k : Nat} (hk : k < 11) (kk : K (.returned (some (.int (nI k)))) h) : MW G d e_J6_ordinal [.ref (G.ad k)] h K := by
  refine MW.start rfl (Nat.le_of_ble_eq_true rfl) rfl fun X o hG hD => ?_
  subst hG
  have hs : gb cJ6_ordinal 0 = some 42 ∧ gb cJ6_ordinal 1 = some 180 ∧ gb cJ6_ordinal 2 = some 0 ∧ gb cJ6_ordinal 3 = some 7 ∧ gb cJ6_ordinal 4 = some 172 ∧ True := sg_of (l := [42, 180, 0, 7, 172]) (by decide +kernel)
  show V X K 0 [.ref (X.G.ad k)] [] h
  refine v_aln o (dc_42 hs.1) rfl rfl (v_gFp (j := 2) (k := k) o (dc_180 ⟨hs.2.1, hs.2.2.1, hs.2.2.2.1⟩) q3747 rfl rfl hk (v_iret o (dc_172 hs.2.2.2.2.1) rfl ?_))
  have : ∀ j : Fin 11, ([0, 1, 2, 3, 4, 5, 6, 7, 8, 9, 10] : List Int32).getD j.val 0 = nI j.val := by decide
  rw [this ⟨k, hk⟩]; exact kk
theorem k_ord {X : Xt} (o : OK e_X12_operands X) {K : Outcome → AH → Prop} {L r : List Value} {h : AH} {k : Nat} (hk : k < 11) (hd : 1 ≤ X.d) (hr : Nat.ble r.length 12 = true) (H : V X K 48 L (.int (nI k) :: r) h) : V X K 45 L (.ref (X.G.ad k) :: r) h := by
  intro Hp locs cells slots ls h1 h2 h3 h4 h5
  intro T hT S
  have hts := o.2.1.2.1
  have hdc : decode cX12_operands 45 = .ok (.invokevirtual 224, 3) := by
    have hs : gb cX12_operands 45 = some 182 ∧ gb cX12_operands 46 = some 0 ∧ gb cX12_operands 47 = some 224 ∧ True := sg_of (l := [182, 0, 224]) (by decide +kernel)
    exact dc_182 ⟨hs.1, hs.2.1, hs.2.2.1⟩
  obtain ⟨cell, c1, c2, c3, c4⟩ := (o.2.1.2.2.1.2.2.2.1.1 k hk).2.1
  have hcT : T.heap[X.G.ad k]? = some cell := by rw [hT, h1.2.1.2 _ (Nat.not_le.mp c4)]; exact c1
  obtain ⟨r0, r', hn, hrm, hst, hsig⟩ := va_Decl.of (hts _ q1280) (hts _ q1281)
  obtain ⟨cn, ck, r1, hcn, hck, hni, hf, hn1⟩ := Cond.sameMethod_found (hts _ q1277)
  cases hn.symm.trans hn1
  obtain ⟨mk, methM, hnamed, hmethM, -, habM⟩ := Cond.instanceMethod_spec (hts _ q1280)
  obtain ⟨c2', r2, m2, q1, q2, q3, q4, kP, hkP, hkPi⟩ := Cond.selects_spec (hts _ q1279)
  cases c3.symm.trans q1
  cases hf.symm.trans q2
  cases hnamed.symm.trans q3
  have hselP : selectMethod X.e.platform X.s.vm cell.cls r0 = .method mk := by rw [Launch.admits_selectMethod S.admits]; exact q4
  have hlen : ([] : List Value).length = r'.sig.parameters.length := by
    have : parseMethodDescriptor "()I" = some ⟨[], some .int⟩ := by decide +kernel
    have hsig' : parseMethodDescriptor "()I" = some r'.sig := hsig
    rw [this] at hsig'; rw [← Option.some.inj hsig']; rfl
  obtain ⟨vm₁, S₁, hstep₁⟩ := S.invokevirtualUp o.1.1 o.2.1.1 (hts _ q1276) (hts _ q1277) (by decide) hn hrm hst (a := X.G.ad k) (cell := cell) hcT (fun z e => by rw [e] at c2; cases c2) hselP hmethM habM hkP hkPi (g := F0 X.m 45 ls (.ref (X.G.ad k) :: r)) rfl (argsL := []) (rest := r) hlen rfl (by rw [o.1.2.1]; exact hdc)
  have hM : MW X.G (X.d - 1) e_J6_ordinal [.ref (X.G.ad k)] h (kin (V X K 48) K L r) := ordinal_ok hk H
  obtain ⟨t, a1, a2⟩ := inv_fin (pc := 45) o (fun L st h q => q) hM (by omega) (by decide) q1281 q293 S₁ (by show HR X.G h T.heap; rw [hT]; exact h1) h3 h4 h5 h2 hdc (sumcat24 _ hr) rfl (S₁.named hnamed)
  exact ⟨t, hstep₁ _ fun acts => by rw [doInvoke_state]; exact a1, a2⟩
