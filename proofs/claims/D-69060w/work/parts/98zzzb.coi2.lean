/-! coins, in place -/
theorem lvw_hd {x y w : LV} : ∀ {p : List Nat}, lva x p = some y → w.1 = y.1 → (lvw x p w).1 = x.1
  | [], hy, hw => by
    have : x = y := Option.some.inj hy
    rw [this]; exact hw
  | i :: p, hy, hw => by
    unfold lvw
    split <;> rfl
theorem RVL.first {h : AH} {z : LV} {w0 : VL} (r : RVL h z) (hw : (flo (lvE z).2.2)[0]? = some w0) : ∃ y0, lva z [0] = some y0 ∧ h.R 3715 z.1 = some y0.1 ∧ RVL h y0 ∧ lvE y0 = w0 ∧ h.tag y0.1 = some (29, 0) ∧ h.J 3714 y0.1 = w0.2.1.2 := by
  obtain ⟨a, k, n, c⟩ := z
  cases c with
  | leaf => cases hw
  | inner kd x u c nx =>
    have e : ((kd, x.2, fer c) : VL) = w0 := Option.some.inj hw
    have ry : RVL h (x.1, kd, x.2, c) := RF.at (c := .inner kd x u c nx) (i := 0) r.2.2.2.2.2 rfl
    refine ⟨(x.1, kd, x.2, c), rfl, r.2.2.2.2.2.1, ry, e, ry.1, ?_⟩
    rw [← e]; exact ry.2.2.2.1
section
variable {G : Gt} {B d : Nat} {h : AH} {l : List Nat} {o : Lc} {wi W A q BA X tt lim SP t : Nat} {snd : Int64} {MA : Ma} {s : Ms} {K : Outcome → AH → Prop} {fs : Nat} {st : Lw} {Lf : Nat → Lw} {RN : Nat → Int32}
theorem StR.itm {j F : Nat} {i i' : It} {k : List It} {x x' : LV} (hx : o (1, wi, j, k.length) = some x) (he : x'.1 = x.1) (hi : ItL h (uO o (1, wi, j, k.length) (some x')) wi i' x') : ∀ {pre : List It}, StR h o wi j F (pre ++ i :: k) → StR h (uO o (1, wi, j, k.length) (some x')) wi j F (pre ++ i' :: k)
  | [], m6 => by
    have rk : ∀ r, rad (uO o (1, wi, j, k.length) (some x')) wi r = rad o wi r := rad_k fun c i j hc => uO_n (by rcases hc with z | z <;> (rw [z]; intro e; cases e))
    obtain ⟨⟨y, y1, y2, y3⟩, s2⟩ := m6
    have : y = x := by rw [hx] at y1; exact (Option.some.inj y1).symm
    subst this
    refine ⟨⟨x', uO_s, by rw [he]; exact y2, hi⟩, s2.keep (fun n hn => uO_n fun e => ?_) (fun n hn => rfl) (fun n y _ _ => rfl) fun r _ a ha => by rw [rk]; exact ha⟩
    have := congrArg (fun p : Sl => p.2.2.2) e
    have : n = k.length := this
    omega
  | a :: pre, m6 => by
    have rk : ∀ r, rad (uO o (1, wi, j, k.length) (some x')) wi r = rad o wi r := rad_k fun c i j hc => uO_n (by rcases hc with z | z <;> (rw [z]; intro e; cases e))
    obtain ⟨⟨y, y1, y2, y3⟩, s2⟩ := m6
    have el : (pre ++ i' :: k).length = (pre ++ i :: k).length := by simp
    refine ⟨⟨y, ?_, ?_, y3.keep rfl fun r _ b hb => by rw [rk]; exact hb⟩, StR.itm hx he hi s2⟩
    · show uO o (1, wi, j, k.length) (some x') (1, wi, j, (pre ++ i' :: k).length) = some y
      rw [el, uO_n (fun e => by
        have := congrArg (fun p : Sl => p.2.2.2) e
        have : (pre ++ i :: k).length = k.length := this
        simp at this
        omega)]
      exact y1
    · show h.ER 747 (F + 2) (pre ++ i' :: k).length = some y.1
      rw [el]; exact y2
theorem WkR.itemb {i i' : It} {pre k : List It} {x x' : LV} (w : WkR h o wi W MA s) (ht : t + 1 = s.1) (hs : stk s = pre ++ i :: k) (hx : o (1, wi, t, k.length) = some x) (he : x'.1 = x.1) (hi : ItL h (uO o (1, wi, t, k.length) (some x')) wi i' x') : WkR h (uO o (1, wi, t, k.length) (some x')) wi W MA (sK s (pre ++ i' :: k)) := by
  obtain ⟨⟨f1, f2, f3, f4, f5⟩, ⟨⟨m1, m2, m3, m4, m5⟩, m6, m7, m8, m9⟩, es, el⟩ := w.F ht
  rw [← es, hs] at m4 m5 m6 m7
  have eln : (pre ++ i' :: k).length = (pre ++ i :: k).length := by simp
  refine w.sk ht (Fq.refl h) (fun p hp => uO_n fun e => ?_) (m6.itm hx he hi) (by rw [eln]; exact m4) (by rw [eln]; exact m5) fun n hn => ?_
  · subst e
    rcases hp with z | z | z
    · exact z rfl
    · exact z rfl
    · exact z rfl
  · rw [eln] at hn
    rw [uO_n (fun z => by
      have := congrArg (fun p : Sl => p.2.2.2) z
      have : n = k.length := this
      simp at hn
      omega)]
    exact m7 n hn
theorem OPR.numP {vv : VL} {pre k : List It} {x y : LV} {pa : List Nat} {h' : AH} {kd : Nat} {n : Int64 × Int64} (H : OPR G B h A W q BA X tt snd lim SP wi MA l o s) (ht : t + 1 = s.1) (hs : stk s = pre ++ .inl vv :: k) (hx : o (1, wi, t, k.length) = some x) (hy : lva x pa = some y) (f1 : Fq (NP y.1) h h') (e1 : h'.I 3712 y.1 = nI kd) (e2 : h'.J 3713 y.1 = n.1) (e3 : h'.J 3714 y.1 = n.2) : ∃ o', OUT wi W h h' o o' ∧ OPR G B h' A W q BA X tt snd lim SP wi MA l o' (sK s (pre ++ .inl (vst vv pa (kd, n, (lvE y).2.2)) :: k)) ∧ av G h' l = av G h l ∧ ∀ p, p ≠ (1, wi, t, k.length) → o' p = o p := by
  obtain ⟨x', q1, q2, q3⟩ := H.at ht (b := pre.length) (v := vv) (by rw [hs]; simp)
  obtain ⟨c, v, w, hf, hg, hw⟩ := H
  have e0 : (stk s).length - 1 - pre.length = k.length := by rw [hs]; simp
  rw [e0, hx] at q1
  cases q1
  obtain ⟨v1, tg⟩ := v.num (pa := pa) hx hy f1 e1 e2 e3
  have fi : Fr (IP W) h h' := f1.1.mono np_ip
  have w1 : WkR h' o wi W MA s := w.oth f1.1 np_wk
  refine ⟨_, OUT.mk1 (y := some (lvw x pa (y.1, kd, n, y.2.2.2))) fi ⟨by simp, rfl⟩ (fun p y hp hy => tg p y (by simp) hy), ⟨c.ip fi, v1, w1.itemb (i' := .inl (vst vv pa (kd, n, (lvE y).2.2))) ht hs hx (lvw_hd hy rfl) ?_, ?_, hg, ?_⟩, by unfold av; rw [f1.2.1], fun p hp => uO_n hp⟩
  · show lvE (lvw x pa (y.1, kd, n, y.2.2.2)) = _
    rw [lvs_e, q2]; rfl
  · show h'.R 28 A = some (Fa W (s.1 - 1))
    rw [f1.1.R (fun z => by rcases z.1 with e | e | e <;> exact absurd e (by decide))]; exact hf
  · exact hw.fr f1.1 (fun _ z => by rcases z.1 with e | e | e <;> exact absurd e (by decide)) (fun _ z => by rcases z.1 with e | e | e <;> exact absurd e (by decide))
/-- a coin -/
def vCv (x : Int64) : VL := (6, (0, 0), fof [(3, (0, x), .leaf)])
theorem vC_v (x : Int64) : vC x = .inl (vCv x) := rfl
theorem cvl_v (x : Int64) : cvl (vCv x) = some x := rfl
/-- a coin on the stack holds another number -/
theorem OPR.coin {x x' : Int64} {pre k : List It} {z y : LV} (H : OPR G B h A W q BA X tt snd lim SP wi MA l o s) (ht : t + 1 = s.1) (hs : stk s = pre ++ vC x :: k) (hz : o (1, wi, t, k.length) = some z) (hy : lva z [0] = some y) (hl : lvE y = (3, (0, x), .leaf)) : ∃ o', OUT wi W h (h.sJ 3714 y.1 x') o o' ∧ OPR G B (h.sJ 3714 y.1 x') A W q BA X tt snd lim SP wi MA l o' (sK s (pre ++ vC x' :: k)) ∧ av G (h.sJ 3714 y.1 x') l = av G h l ∧ ∀ p, p ≠ (1, wi, t, k.length) → o' p = o p := by
  have ry := RVL.sub (H.2.1.2.2.2 _ _ hz).1 hy
  have k1 : h.I 3712 y.1 = nI 3 := by
    have := ry.2.1
    rw [show y.2.1 = 3 from congrArg Prod.fst hl] at this
    exact this
  have k2 : h.J 3713 y.1 = 0 := by
    have := ry.2.2.1
    rw [show y.2.2.1 = (0, x) from congrArg (fun v : VL => v.2.1) hl] at this
    exact this
  have := H.numP (kd := 3) (n := (0, x')) (vv := vCv x) (pa := [0]) ht hs hz hy (h' := h.sJ 3714 y.1 x') (Fq.sJ (Fq.refl h) ⟨Or.inr (Or.inr rfl), rfl⟩) (by simp [n_sI, z_sI, tag_sI, I_sI, J_sI, R_sI, EI_sI, EJ_sI, ER_sI, n_sJ, z_sJ, tag_sJ, I_sJ, J_sJ, R_sJ, EI_sJ, EJ_sJ, ER_sJ, n_sR, z_sR, tag_sR, I_sR, J_sR, R_sR, EI_sR, EJ_sR, ER_sR, n_sEI, z_sEI, tag_sEI, I_sEI, J_sEI, R_sEI, EI_sEI, EJ_sEI, ER_sEI, n_sEJ, z_sEJ, tag_sEJ, I_sEJ, J_sEJ, R_sEJ, EI_sEJ, EJ_sEJ, ER_sEJ, n_sER, z_sER, tag_sER, I_sER, J_sER, R_sER, EI_sER, EJ_sER, ER_sER, n_nw, z_nw, tag_nw, I_nw, J_nw, R_nw, EI_nw, EJ_nw, ER_nw]; exact k1) (by simp [n_sI, z_sI, tag_sI, I_sI, J_sI, R_sI, EI_sI, EJ_sI, ER_sI, n_sJ, z_sJ, tag_sJ, I_sJ, J_sJ, R_sJ, EI_sJ, EJ_sJ, ER_sJ, n_sR, z_sR, tag_sR, I_sR, J_sR, R_sR, EI_sR, EJ_sR, ER_sR, n_sEI, z_sEI, tag_sEI, I_sEI, J_sEI, R_sEI, EI_sEI, EJ_sEI, ER_sEI, n_sEJ, z_sEJ, tag_sEJ, I_sEJ, J_sEJ, R_sEJ, EI_sEJ, EJ_sEJ, ER_sEJ, n_sER, z_sER, tag_sER, I_sER, J_sER, R_sER, EI_sER, EJ_sER, ER_sER, n_nw, z_nw, tag_nw, I_nw, J_nw, R_nw, EI_nw, EJ_nw, ER_nw]; exact k2) (by simp [n_sI, z_sI, tag_sI, I_sI, J_sI, R_sI, EI_sI, EJ_sI, ER_sI, n_sJ, z_sJ, tag_sJ, I_sJ, J_sJ, R_sJ, EI_sJ, EJ_sJ, ER_sJ, n_sR, z_sR, tag_sR, I_sR, J_sR, R_sR, EI_sR, EJ_sR, ER_sR, n_sEI, z_sEI, tag_sEI, I_sEI, J_sEI, R_sEI, EI_sEI, EJ_sEI, ER_sEI, n_sEJ, z_sEJ, tag_sEJ, I_sEJ, J_sEJ, R_sEJ, EI_sEJ, EJ_sEJ, ER_sEJ, n_sER, z_sER, tag_sER, I_sER, J_sER, R_sER, EI_sER, EJ_sER, ER_sER, n_nw, z_nw, tag_nw, I_nw, J_nw, R_nw, EI_nw, EJ_nw, ER_nw])
  rw [show (lvE y).2.2 = .leaf from congrArg (fun v : VL => v.2.2) hl] at this
  exact this
end
