/-! a publication: lookAt, whole -/
def vch (m : Md) : List Ux → Nat → Option (Nat × Nat)
  | [], _ => none
  | u :: l, k => match chk m u with
    | .error e => some (30 + e.1, 1024 * k + e.2)
    | .ok _ => vch m l (k + 1)
theorem vch_s {m : Md} {e : Nat × Nat} {u : Ux} : ∀ {us : List Ux} {k i : Nat}, us[k]? = some u → chk m u = .error e → (∀ j u', j < k → us[j]? = some u' → ∃ r, chk m u' = .ok r) → vch m us i = some (30 + e.1, 1024 * (k + i) + e.2)
  | [], _, _, h, _, _ => by simp at h
  | v :: l, k, i, h, he, ok => by
    cases k with
    | zero =>
      rw [List.getElem?_cons_zero] at h
      rw [← Option.some.inj h] at he
      unfold vch
      rw [he, Nat.zero_add]
    | succ k =>
      obtain ⟨r, hr⟩ := ok 0 v (by omega) rfl
      rw [List.getElem?_cons_succ] at h
      unfold vch
      rw [hr]
      have := vch_s (i := i + 1) h he (fun j u' hj hu' => ok (j + 1) u' (by omega) (by rw [List.getElem?_cons_succ]; exact hu'))
      rw [show k + 1 + i = k + (i + 1) by omega]
      exact this
theorem vch_n {m : Md} : ∀ {us : List Ux} {i : Nat}, (∀ u ∈ us, ∃ r, chk m u = .ok r) → vch m us i = none
  | [], _, _ => rfl
  | v :: l, i, ok => by
    obtain ⟨r, hr⟩ := ok v (List.mem_cons_self ..)
    unfold vch
    rw [hr]
    exact vch_n fun u hu => ok u (List.mem_cons_of_mem _ hu)
/-- the fault that lookAt finds -/
def vla (m : Md) (dq : Nat → Nat) : Option (Nat × Nat) := match ffl (bears m) m.2.1 with
  | some k => some (24, k)
  | none => (match ffl (fun k => decide (dq k ≤ 24)) (List.range m.2.1.length) with
    | some k => some (25, k)
    | none => vch m m.2.2.2.2.2 0)
section
variable {G : Gt} {B d : Nat} {h1 : AH} {l : List Nat} {o : Lc} {wi W A q BA X tt lim SP DP M C CW : Nat} {snd : Int64} {MA : Ma} {s : Ms} {K : Outcome → AH → Prop} {fx : Option Nat} {m : Md} {dw : Nat → Nat → Nat} {dq0 : Nat → Nat}
theorem lookAt_ok (H : OPQ 0 fx G B h1 A W q BA X tt snd lim SP wi MA l o s) (md : MDR h1 M m) (rC : h1.R 14 A = some C) (sc : SCk h1 C CW) (tw : h1.tag CW = some (31, 0)) (gd : GDm m) (dr : DPR h1 M DP (dpF m dw dq0 m.2.2.1.length)) (hdw : ∀ i, i < nst m → dz m (fdn m dw) i ≤ 24) (hd : 16 ≤ d)
    (kf : ∀ e h', vla m (mdw m dw) = some e → OUL wi W DP X h1 h' o o → OPQ 0 fx G B h' A W q BA X tt snd lim SP wi MA l o s → (∃ dp, DPR h' M DP dp) → (h'.I 2709 X = nI e.2 ∧ h'.I 24 A = nI 4 ∧ h'.J 25 A = (nI e.1).toInt64) → K (.threw SP) h')
    (kk : vla m (mdw m dw) = none → ∀ h', OUL wi W DP X h1 h' o o → OPQ 0 fx G B h' A W q BA X tt snd lim SP wi MA l o s → DPW h' M DP m (mdw m dw) → K (.returned none) h') : MW G d e_X1_lookAt [.ref A, .ref M] h1 K := by
  refine st_X1_lookAt fun XX oo hG hD _ => ?_
  subst hG; subst hD
  have gm := gd.1
  obtain ⟨⟨tM, rT⟩, -⟩ := id md
  have o32 := gd.2.2.2.1.2.1
  refine k_X1_lookAt_0 oo ?_
  refine la_7 (s := s) (C := C) (CW := CW) (DP := DP) oo H md rC sc gm (by omega) (fun k s' hs hf ok h' u' H' dp' sp => ?_) (fun okb => ?_) m.2.1.length 0 (by omega) (fun j s' hj _ => absurd hj (Nat.not_lt_zero _))
  · refine kf (24, k) h' ?_ u' H' ⟨_, dp' _ _ dr⟩ sp
    unfold vla
    rw [ffl_s hs hf ok]
  refine k_X1_lookAt_45 oo ?_
  refine la_47 (X := X) (DP := DP) (dq := dpF m dw dq0 m.2.2.1.length) oo md (fun h2 f2 dr2 => ?_) m.2.1.length 0 h1 (by omega) (Fq.refl _) ⟨_, dr, fun i _ => by rw [dzk_0]⟩
  refine k_X1_lookAt_68 oo ?_
  have dr2' : DPW h2 M DP m (dz m (fdn m dw)) := by
    obtain ⟨dp, y1, y2⟩ := dr2
    exact ⟨dp, y1, fun i hi => (y2 i hi).trans (dag_F i hi)⟩
  have le : 6 * m.2.1.length * m.2.1.length ≤ 6 * 32 * 32 := Nat.mul_le_mul (by omega) o32
  refine la_70 (b := 24) (dq := dz m (fdn m dw)) (X := X) (DP := DP) oo md gm (by omega) (by omega) (fun h3 l4 f3 dr3 => ?_) m.2.1.length 0 h2 _ (by omega) f2 dr2' (fun i hi => by
    have := hdw i hi
    show dz m (fdn m dw) i ≤ _
    omega)
  have dr3 : DPW h3 M DP m (mdw m dw) := dr3
  obtain ⟨u3, H3⟩ := H.p2 f3
  have md3 := md.p2 f3.1
  refine k_X1_lookAt_120 oo ?_
  refine la_122 (dq := mdw m dw) (DP := DP) oo H3 md3 dr3 (by omega) (fun k hk hf ok h' u' H' dp' sp => ?_) (fun ok => ?_) m.2.1.length 0 (by omega) (fun j hj => absurd hj (Nat.not_lt_zero _))
  · obtain ⟨dp3, q1, q2⟩ := dr3
    refine kf (25, k) h' ?_ (u3.trans u') H' ⟨_, dp' _ _ q1⟩ sp
    unfold vla
    rw [ffl_n okb]
    have : ffl (fun k => decide (mdw m dw k ≤ 24)) (List.range m.2.1.length) = some k := ffl_s (s := k) (List.getElem?_range hk) (decide_eq_false (by omega)) (fun j s' hj hs' => by
      have := get_lt hs'
      rw [List.length_range] at this
      rw [List.getElem?_range this] at hs'
      rw [← Option.some.inj hs']
      exact decide_eq_true (ok j hj))
    simp only [this]
  have ok2 : ffl (fun k => decide (mdw m dw k ≤ 24)) (List.range m.2.1.length) = none := ffl_n fun j hj => decide_eq_true (ok j (List.mem_range.mp hj))
  have ev : vla m (mdw m dw) = vch m m.2.2.2.2.2 0 := by
    unfold vla
    rw [ffl_n okb]
    simp only [ok2]
  refine k_X1_lookAt_154 oo ?_
  have nC : ∀ a, ¬ P2 DP X 14 a := fun a => P2.no (l := [14]) (by decide) _ _ rfl
  refine la_156 (dq := mdw m dw) (DP := DP) (C := C) (CW := CW) oo H3 md3 dr3 (by rw [f3.1.R (nC _)]; exact rC) (sc.fr f3.1 (P2.no (by decide))) (f3.1.tag tw) gd (by omega) (fun k u e hu he ok h4 f4 dr4 h' u' H' dp' sp => ?_) (fun ok h4 f4 dr4 => ?_) m.2.2.2.2.2.length 0 h3 _ (by omega) (Fq.refl _) dr3 (fun j u' hj _ => absurd hj (Nat.not_lt_zero _))
  · obtain ⟨dp4, q1, q2⟩ := dr4
    obtain ⟨u4, -⟩ := H3.p2 f4
    refine kf (30 + e.1, 1024 * k + e.2) h' ?_ (u3.trans (u4.trans u')) H' ⟨_, dp' _ _ q1⟩ sp
    rw [ev, vch_s hu he ok, Nat.add_zero]
  · obtain ⟨u4, H4⟩ := H3.p2 f4
    exact kk (by rw [ev, vch_n ok]) h4 (u3.trans u4) H4 dr4
end
