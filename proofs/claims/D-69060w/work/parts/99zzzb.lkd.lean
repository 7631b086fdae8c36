/-! the checker's faults are numbers from 1 to 63; lookAt, the checks -/
def EE {α : Type} (r : Except Nat α) : Prop := ∀ w, r = .error w → 1 ≤ w ∧ w < 64
theorem EE.k {α : Type} {a : α} : EE (.ok a : Except Nat α) := fun w h => by cases h
theorem EE.er {α : Type} {v : Nat} (h : 1 ≤ v ∧ v < 64) : EE (.error v : Except Nat α) := fun w e => by
  rw [← Except.error.inj e]; exact h
theorem EE.eb {α β : Type} {r : Except Nat α} {f : α → Except Nat β} (h1 : EE r) (h2 : ∀ a, EE (f a)) : EE (eb r f) := fun w e => by
  cases r with
  | ok a => exact h2 a w e
  | error v => exact h1 w (by rw [show v = w from Except.error.inj e])
theorem EE.ne {b : Bool} {v : Nat} (h : 1 ≤ v ∧ v < 64) : EE (nee b v) := fun w e => by
  unfold nee at e
  split at e
  · cases e
  · rw [← Except.error.inj e]; exact h
theorem EE.if {α : Type} {c : Prop} [Decidable c] {a b : Except Nat α} (h1 : EE a) (h2 : EE b) : EE (if c then a else b) := by
  split
  · exact h1
  · exact h2
theorem tk_ee {s : Sk} : EE (tk s) := by
  cases s with
  | nil => exact EE.er (by decide)
  | cons x s => exact EE.k
theorem tkT_ee {t : Ty} {s : Sk} : EE (tkT t s) := EE.eb tk_ee fun _ => EE.eb (EE.ne (by decide)) fun _ => EE.k
theorem tkR_ee {t : Ty} {w : Bool} {s : Sk} : EE (tkR t w s) := EE.eb tk_ee fun _ => EE.eb (EE.ne (by decide)) fun _ => EE.eb (EE.ne (by decide)) fun _ => EE.k
theorem tkN_ee {s : Sk} : EE (tkN s) := EE.eb tk_ee fun _ => EE.eb (EE.ne (by decide)) fun _ => EE.k
theorem pt_ee {t : Ty} {o : Og} {s : Sk} : EE (pt t o s) := EE.eb (EE.ne (by decide)) fun _ => EE.k
theorem tkL_ee : ∀ {l : List Ty} {s : Sk}, EE (tkL l s)
  | [], _ => EE.k
  | _ :: _, _ => EE.eb tkT_ee fun _ => EE.eb tkL_ee fun _ => EE.k
theorem ptL_ee : ∀ {l : List (Ty × Og)} {s : Sk}, EE (ptL l s)
  | [], _ => EE.k
  | _ :: _, _ => EE.eb pt_ee fun _ => ptL_ee
theorem cLoc_ee {m : Md} {lt : List Ty} {o k : Nat} {c : Cs} : EE (cLoc m lt o k c) := by
  unfold cLoc
  repeat' (first | exact EE.k | exact EE.ne (by decide) | exact EE.er (by decide) | exact tk_ee | exact tkT_ee | exact tkR_ee | exact tkN_ee | exact pt_ee | exact tkL_ee | exact ptL_ee | refine EE.if ?_ ?_ | refine EE.eb ?_ (fun _ => ?_) | split)
theorem cRef_ee {m : Md} {lt : List Ty} {o : Nat} {c : Cs} : EE (cRef m lt o c) := by
  unfold cRef
  repeat' (first | exact EE.k | exact EE.ne (by decide) | exact EE.er (by decide) | exact tk_ee | exact tkT_ee | exact tkR_ee | exact tkN_ee | exact pt_ee | exact tkL_ee | exact ptL_ee | refine EE.if ?_ ?_ | refine EE.eb ?_ (fun _ => ?_) | split)
theorem cFld_ee {m : Md} {w : Bool} {k i : Nat} {c : Cs} : EE (cFld m w k i c) := by
  unfold cFld
  repeat' (first | exact EE.k | exact EE.ne (by decide) | exact EE.er (by decide) | exact tk_ee | exact tkT_ee | exact tkR_ee | exact tkN_ee | exact pt_ee | exact tkL_ee | exact ptL_ee | refine EE.if ?_ ?_ | refine EE.eb ?_ (fun _ => ?_) | split)
theorem cPack_ee {m : Md} {k : Nat} {c : Cs} : EE (cPack m k c) := by
  unfold cPack
  repeat' (first | exact EE.k | exact EE.ne (by decide) | exact EE.er (by decide) | exact tk_ee | exact tkT_ee | exact tkR_ee | exact tkN_ee | exact pt_ee | exact tkL_ee | exact ptL_ee | refine EE.if ?_ ?_ | refine EE.eb ?_ (fun _ => ?_) | split)
theorem cUnp_ee {m : Md} {k : Nat} {c : Cs} : EE (cUnp m k c) := by
  unfold cUnp
  repeat' (first | exact EE.k | exact EE.ne (by decide) | exact EE.er (by decide) | exact tk_ee | exact tkT_ee | exact tkR_ee | exact tkN_ee | exact pt_ee | exact tkL_ee | exact ptL_ee | refine EE.if ?_ ?_ | refine EE.eb ?_ (fun _ => ?_) | split)
theorem cCall_ee {m : Md} {u : Ux} {lt : List Ty} {g : Nat} {c : Cs} : EE (cCall m u lt g c) := by
  unfold cCall
  repeat' (first | exact EE.k | exact EE.ne (by decide) | exact EE.er (by decide) | exact tk_ee | exact tkT_ee | exact tkR_ee | exact tkN_ee | exact pt_ee | exact tkL_ee | exact ptL_ee | refine EE.if ?_ ?_ | refine EE.eb ?_ (fun _ => ?_) | split)
theorem cRes_ee {m : Md} {u : Ux} {lt : List Ty} {o k : Nat} {c : Cs} : EE (cRes m u lt o k c) := by
  unfold cRes
  repeat' (first | exact EE.k | exact EE.ne (by decide) | exact EE.er (by decide) | exact tk_ee | exact tkT_ee | exact tkR_ee | exact tkN_ee | exact pt_ee | exact tkL_ee | exact ptL_ee | refine EE.if ?_ ?_ | refine EE.eb ?_ (fun _ => ?_) | split)
theorem cVec_ee {m : Md} {lt : List Ty} {o a b : Nat} {c : Cs} : EE (cVec m lt o a b c) := by
  unfold cVec
  repeat' (first | exact EE.k | exact EE.ne (by decide) | exact EE.er (by decide) | exact tk_ee | exact tkT_ee | exact tkR_ee | exact tkN_ee | exact pt_ee | exact tkL_ee | exact ptL_ee | refine EE.if ?_ ?_ | refine EE.eb ?_ (fun _ => ?_) | split)
theorem cNum_ee {m : Md} {o : Nat} {c : Cs} : EE (cNum m o c) := by
  unfold cNum
  repeat' (first | exact EE.k | exact EE.ne (by decide) | exact EE.er (by decide) | exact tk_ee | exact tkT_ee | exact tkR_ee | exact tkN_ee | exact pt_ee | exact tkL_ee | exact ptL_ee | refine EE.if ?_ ?_ | refine EE.eb ?_ (fun _ => ?_) | split)
theorem cEnd_ee {m : Md} {u : Ux} {lt : List Ty} {c : Cs} : EE (cEnd m u lt c) := by
  unfold cEnd
  repeat' (first | exact EE.k | exact EE.ne (by decide) | exact EE.er (by decide) | exact tk_ee | exact tkT_ee | exact tkR_ee | exact tkN_ee | exact pt_ee | exact tkL_ee | exact ptL_ee | refine EE.if ?_ ?_ | refine EE.eb ?_ (fun _ => ?_) | split)
theorem cOp_ee {m : Md} {u : Ux} {lt : List Ty} {o a b : Nat} {c : Cs} : EE (cOp m u lt o a b c) := by
  unfold cOp
  repeat' (first | exact cLoc_ee | exact cRef_ee | exact cFld_ee | exact cPack_ee | exact cUnp_ee | exact cCall_ee | exact cRes_ee | exact cVec_ee | exact cNum_ee | exact cEnd_ee | refine EE.if ?_ ?_)
  all_goals repeat' (first | exact EE.k | exact EE.ne (by decide) | exact EE.er (by decide) | exact tk_ee | exact tkT_ee | exact tkR_ee | exact tkN_ee | exact pt_ee | exact tkL_ee | exact ptL_ee | refine EE.if ?_ ?_ | refine EE.eb ?_ (fun _ => ?_) | split)
theorem cJoin_ee {m : Md} : ∀ {lt : List Ty} {a b : Ls}, EE (cJoin m lt a b)
  | t :: lt, a :: l, b :: k => EE.eb (EE.ne (by decide)) fun _ => EE.eb cJoin_ee fun _ => EE.k
  | [], _, _ => EE.k
  | _ :: _, [], _ => EE.k
  | _ :: _, _ :: _, [] => EE.k
theorem cBack_ee {m : Md} : ∀ {lt : List Ty} {a b : Ls}, EE (cBack m lt a b)
  | t :: lt, a :: l, b :: k => EE.eb (EE.ne (by decide)) fun _ => cBack_ee
  | [], _, _ => EE.k
  | _ :: _, [], _ => EE.k
  | _ :: _, _ :: _, [] => EE.k
theorem cCome_ee {m : Md} {lt : List Ty} {i j : Nat} {l : Ls} {tb : Tb} : EE (cCome m lt i j l tb) := by
  unfold cCome
  refine EE.if (EE.eb cBack_ee fun _ => EE.k) ?_
  split
  · exact EE.eb cJoin_ee fun _ => EE.k
  · exact EE.k
theorem cLook_ee {m : Md} {u : Ux} {lt : List Ty} {i : Nat} {x : Ix} {c : Sk × Tb} : EE (cLook m u lt i x c) := by
  unfold cLook
  split
  · exact EE.er (by decide)
  · exact EE.eb (EE.ne (by decide)) fun _ => EE.eb cOp_ee fun _ => EE.eb (EE.if cCome_ee EE.k) fun _ => EE.if EE.k (EE.eb (EE.ne (by decide)) fun _ => EE.eb cCome_ee fun _ => EE.k)
theorem cAll_ee {m : Md} {u : Ux} {lt : List Ty} : ∀ {l : List Ix} {i : Nat} {c : Sk × Tb} {e : Nat × Nat}, cAll m u lt l i c = .error e → 1 ≤ e.1 ∧ e.1 < 64
  | [], _, _, _, h => by cases h
  | x :: l, i, c, e, h => by
    unfold cAll at h
    split at h
    · rename_i w hw
      rw [← Except.error.inj h]
      exact cLook_ee w hw
    · exact cAll_ee h
theorem chk_ee {m : Md} {u : Ux} {e : Nat × Nat} (h : chk m u = .error e) : 1 ≤ e.1 ∧ e.1 < 64 := cAll_ee h
section
variable {B : Nat} {h1 : AH} {l : List Nat} {o : Lc} {wi W A q BA X tt lim SP DP M C CW : Nat} {snd : Int64} {MA : Ma} {s : Ms} {K : Outcome → AH → Prop} {fx : Option Nat} {m : Md} {dq : Nat → Nat}
theorem DPW.cc {h h' : AH} (f : Fr (FS ccF) h h') (dr : DPW h M DP m dq) : DPW h' M DP m dq := by
  obtain ⟨dp, a, b⟩ := dr
  exact ⟨dp, a.ou f (FS.n (by decide)) (FS.n (by decide)), b⟩
theorem la_156 {XX : Xt} (oo : OK e_X1_lookAt XX) (H : OPQ 0 fx XX.G B h1 A W q BA X tt snd lim SP wi MA l o s) (md : MDR h1 M m) (dr : DPW h1 M DP m dq) (rC : h1.R 14 A = some C) (sc : SCk h1 C CW) (tw : h1.tag CW = some (31, 0)) (gd : GDm m) (hd : 15 ≤ XX.d)
    (kf : ∀ k u e, m.2.2.2.2.2[k]? = some u → chk m u = .error e → (∀ j u', j < k → m.2.2.2.2.2[j]? = some u' → ∃ r, chk m u' = .ok r) → ∀ h, Fq (P2 DP X) h1 h → DPW h M DP m dq → FLK K fx XX.G B A W q BA X tt snd lim SP wi DP MA l o s h (30 + e.1) (1024 * k + e.2))
    (kk : (∀ u ∈ m.2.2.2.2.2, ∃ r, chk m u = .ok r) → ∀ h, Fq (P2 DP X) h1 h → DPW h M DP m dq → K (.returned none) h) :
    ∀ n k h l4, n + k = m.2.2.2.2.2.length → Fq (P2 DP X) h1 h → DPW h M DP m dq → (∀ j u', j < k → m.2.2.2.2.2[j]? = some u' → ∃ r, chk m u' = .ok r) → V XX K 156 [.ref A, .ref M, .ref (M + 1), .int (nI k), l4] [] h := by
  intro n
  induction n with
  | zero =>
    intro k h l4 hk f dr ok
    obtain rfl : k = m.2.2.2.2.2.length := by omega
    obtain ⟨⟨tM, rT⟩, sT, ty, co, mx⟩ := md.p2 f.1
    have tT := sT.1.1
    refine k_X1_lookAt_156 (r2 := mx.1.2.2.2.2) oo (fun _ => ?_) (fun c => absurd (Int32.le_refl _) c)
    refine k_X1_lookAt_213 oo ?_
    refine kk (fun u hu => ?_) h f dr
    obtain ⟨j, hj⟩ := List.mem_iff_getElem?.mp hu
    exact ok j u (get_lt hj) hj
  | succ n ih =>
    intro k h l4 hk f dr ok
    obtain ⟨uu, H1⟩ := H.p2 f
    have md1 := md.p2 f.1
    obtain ⟨⟨tM, rT⟩, sT, ty, co, mx⟩ := id md1
    have tT := sT.1.1
    have rS := sT.1.2.2.1
    have t1 := sT.2.1.2.1
    have o64 := mx.2.1.2.2.2.2.2
    have t0 := H1.1.1.1
    have rC1 : h.R 14 A = some C := by rw [f.1.R (P2.no (l := [14]) (by decide) _ _ rfl)]; exact rC
    have sc1 : SCk h C CW := sc.fr f.1 (P2.no (by decide))
    have tw1 := f.1.tag tw
    have tC := sc1.1.1
    obtain ⟨u, hu⟩ : ∃ u, m.2.2.2.2.2[k]? = some u := ⟨_, List.getElem?_eq_getElem (by omega)⟩
    have um := List.mem_of_getElem? hu
    have ux := mx.2.2.2.2.2.2 k u hu
    have fn := sT.2.2.2.2 k (by omega)
    have ix : IX (nI k) 96 k := IX.mk (by omega) (by omega)
    obtain ⟨gx, g24, g1⟩ := gd.2.2.1 u um
    refine k_X1_lookAt_156 (r2 := mx.1.2.2.2.2) oo (fun c => absurd ((nI_leI (by omega) (by omega)).mp c) (by omega)) (fun _ => ?_)
    refine k_X1_lookAt_164 (r11 := fn.1) oo ?_
    refine ccheck_ok (W := CW) (m := m) (u := u) (n := (ui u).length) (fun h' e1 e2 f' => ?_) tw1 tC (gd.1.2.2.2.2.1 u um).2 (gd.1.2.2.2.2.1 u um).1 gd.1 g24 g1 rfl gd.2.1 gx (by omega) ?_
    · have n0 : ∀ l : List Nat, l.all (fun f => !([1537, 1538].contains f)) = true → ∀ f a, l.contains f = true → ¬ FS [1537, 1538] f a := fun l hl f a hf z => by
        rw [List.all_eq_true] at hl
        have := hl f (List.contains_iff_mem.mp hf)
        unfold FS at z
        rw [z] at this; cases this
      have md2 := md1.fr f'.1 (n0 mdlF (by decide))
      have fn2 := md2.2.1.2.2.2.2 k (by omega)
      rw [show M + 1 + 141 + 4 * k = M + 1 + 140 + 4 * k + 1 by omega, show M + 1 + 142 + 4 * k = M + 1 + 140 + 4 * k + 2 by omega, show M + 1 + 143 + 4 * k = M + 1 + 140 + 4 * k + 3 by omega] at fn2
      have ux2 := md2.2.2.2.2.2.2.2.2.2.2 k u hu
      exact ⟨sc1.fr f'.1 (n0 scF (by decide)), ⟨e1, e2⟩, md2.2, ⟨fn2.2.1, fn2.2.2.1.1, fn2.2.2.1.2.1, fn2.2.2.1.2.2, fn2.2.2.2.1, fn2.2.2.2.2.1, fn2.2.2.2.2.2⟩, ux2⟩
    · cases hc : chk m u with
      | ok r =>
        intro h' f'
        refine k_X1_lookAt_178 oo (fun _ => ?_) (fun c => absurd rfl c)
        refine k_X1_lookAt_207 oo ?_
        rw [nI_add]
        refine ih (k + 1) h' _ (by omega) (f.trans (f'.mono fun f a z => Or.inr (Or.inr z))) (dr.cc f'.1) fun j u' hj hu' => ?_
        rcases Nat.lt_or_ge j k with c1 | c1
        · exact ok j u' c1 hu'
        · obtain rfl : j = k := by omega
          rw [hu] at hu'
          rw [← Option.some.inj hu']; exact ⟨r, hc⟩
      | error e =>
        intro h' f' ea
        have ee := chk_ee hc
        have f2 : Fq (P2 DP X) h1 h' := f.trans (f'.mono fun f a z => Or.inr (Or.inr z))
        obtain ⟨-, H2⟩ := H.p2 f2
        have t0' := H2.1.1.1
        have rC2 : h'.R 14 A = some C := by rw [f2.1.R (P2.no (l := [14]) (by decide) _ _ rfl)]; exact rC
        have tC2 := f'.1.tag tC
        refine k_X1_lookAt_178 oo (fun c => absurd ((nI_eq (b := 0) (by omega) (by omega)).mp c) (by omega)) (fun _ => ?_)
        refine k_X1_lookAt_185 (r5 := ea) oo ?_
        rw [nI_add, nI_mul, nI_add]
        exact flt_ok (DP := DP) H2 (by omega) fun h3 u3 H3 dp3 st3 => kf k u e hu hc ok h' f2 (dr.cc f'.1) h3 u3 H3 dp3 st3
end
