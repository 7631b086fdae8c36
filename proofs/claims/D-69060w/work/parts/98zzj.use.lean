/-! a worker of the component's: the use of locals -/
section
variable {G : Gt} {B d : Nat} {h : AH} {l : List Nat} {o : Lc} {wi W A q BA X tt lim SP t : Nat} {snd : Int64} {MA : Ma} {s : Ms} {K : Outcome → AH → Prop}
theorem sF_sF {f f' : Fm} : sF (sF s f) f' = sF s f' := by
  refine Prod.ext rfl (Prod.ext (funext fun j => ?_) rfl)
  show uF (uF s.2.1 (s.1 - 1) f) (s.1 - 1) f' j = uF s.2.1 (s.1 - 1) f' j
  unfold uF
  split <;> rfl
/-- the item of a local -/
theorem OPR.loc (H : OPR G B h A W q BA X tt snd lim SP wi MA l o s) (ht : t + 1 = s.1) {k : Nat} (hk : k < 40) (hL : ∀ v, lcs s k = some (.inl v) → VW v) : (lcs s k = none ∧ o (2, wi, t, k) = none ∧ h.ER 731 (Fa W t + 1) k = none) ∨ ∃ y, o (2, wi, t, k) = some y ∧ h.ER 731 (Fa W t + 1) k = some y.1 ∧ fdp y.2.2.2 ≤ 40 ∧ RVL h y ∧ ∀ i, lcs s k = some i → ItL h o wi i y ∧ isz i = 1 + fsz y.2.2.2 ∧ isz i ≤ 200001 := by
  obtain ⟨-, m, -, el⟩ := H.2.2.1.F ht
  have := m.2.2.2.1 k hk
  rw [← el] at this
  have rv : ∀ y, o (2, wi, t, k) = some y → RVL h y := fun y hy => (H.2.1.2.2.2 _ y hy).1
  cases hl : lcs s k with
  | none =>
    rw [hl] at this
    rcases this with z | ⟨x, x1, x2, x3, x4⟩
    · exact Or.inl ⟨rfl, z⟩
    · exact Or.inr ⟨x, x1, x2, by rw [x4]; simp [fdp], rv x x1, fun i hi => by cases hi⟩
  | some i =>
    rw [hl] at this
    obtain ⟨x, x1, x2, x3⟩ := this
    refine Or.inr ⟨x, x1, x2, ?_, rv x x1, fun i' hi => ?_⟩
    · cases i with
      | inl v =>
        have e : lvE x = v := x3
        have := (hL v hl).1.2.1
        rw [← e] at this
        have e2 : fdp (lvE x).2.2 = fdp x.2.2.2 := fer_dp _
        omega
      | inr r => rw [x3.2.1]; simp [fdp]
    · cases hi
      refine ⟨x3, ?_⟩
      cases i with
      | inl v =>
        have e : lvE x = v := x3
        have hz := (hL v hl).2.2
        rw [← e] at hz
        have e2 : fsz (lvE x).2.2 = fsz x.2.2.2 := fer_sz _
        have : isz (.inl v) = 1 + fsz x.2.2.2 := by
          rw [← e]
          show 1 + fsz (lvE x).2.2 = _
          rw [e2]
        exact ⟨this, by omega⟩
      | inr r => exact ⟨by rw [x3.2.1]; rfl, by show (1 : Nat) ≤ _; omega⟩
theorem pp_12 {a b c e f g : Nat} : ((1, a, b, c) : Sl) ≠ (2, e, f, g) := fun e => by cases e
theorem rdk {o o' : Lc} (hh : ∀ r : Nat × Nat, o' (rsl' wi r) = o (rsl' wi r)) (r : Rx) : rad o' wi r = rad o wi r := by
  unfold rad; rw [hh]
/-- a value comes onto the stack: it was made just now, at no slot else -/
theorem OPR.push {h1 : AH} {l1 : List Nat} {x : LV} {i : It} (H : OPR G B h A W q BA X tt snd lim SP wi MA l o s) (ht : t + 1 = s.1) (hn : (stk s).length < 64) (f1 : Fr VQ h h1) (v1 : VH G B h1 q l1 (uO o (1, wi, t, (stk s).length) (some x))) (tg : TG o [] h h1) (hi : ItL h1 o wi i x) (kk : ∀ h' o', OUT wi W h h' o o' → OPR G B h' A W q BA X tt snd lim SP wi MA l1 o' (mpu s i) → av G h' l1 = av G h1 l1 → K (.returned none) h') : MW G d e_X1_push [.ref A, .ref x.1] h1 K := by
  obtain ⟨c, v, w, hf, hg, hw⟩ := H
  have t32 : t < 32 := by have := w.1.2.2.2.1; omega
  have fi1 : Fr (IP W) h h1 := f1.mono VQ.ip
  have hf1 : h1.R 28 A = some (Fa W t) := by rw [f1.R (VQ.no (l := [28]) rfl _ _ rfl), hf, show s.1 - 1 = t by omega]
  refine cpush_ok (c.ip fi1) (w.vq f1 tg) hf1 ht hn (v1.2.2.2 _ x uO_s).1.1 hi fun h2 f2 w2 => ?_
  obtain ⟨v2, tg2⟩ := v1.oth f2 PH.v
  have fi : Fr (IP W) h h2 := fi1.trans (f2.1.mono (PH.ip t32))
  refine kk h2 _ (OUT.mk1 fi ⟨by simp, rfl⟩ fun p z hp2 hz => ?_) ⟨c.ip fi, v2, w2, ?_, hg, (hw.vq f1).ph f2.1⟩ (by unfold av; rw [f2.2.1])
  · rw [tg2 p z (by simp) (by rw [uO_n (by simpa using hp2)]; exact hz), tg p z (by simp) hz]
  · show h2.R 28 A = some (Fa W (s.1 - 1))
    rw [f2.1.R PH.f, show s.1 - 1 = t by omega]; exact hf1
theorem OPR.free (H : OPR G B h A W q BA X tt snd lim SP wi MA l o s) (ht : t + 1 = s.1) : o (1, wi, t, (stk s).length) = none := by
  obtain ⟨-, m, es, -⟩ := H.2.2.1.F ht
  rw [es]; exact m.2.2.1 _ (Nat.le_refl _)
/-- a new reference comes onto the stack -/
theorem OPR.pushR {h1 : AH} {l1 : List Nat} {a b : Nat} {r : Rx} (H : OPR G B h A W q BA X tt snd lim SP wi MA l o s) (ht : t + 1 = s.1) (hn : (stk s).length < 64) (f1 : Fr VQ h h1) (v1 : VH G B h1 q l1 (uO o (1, wi, t, (stk s).length) (some (a, 8, (0, 0), .leaf)))) (tg : TG o [] h h1) (hr : rad o wi r = some b) (kk : ∀ h' o', OUT wi W h h' o o' → OPR G B h' A W q BA X tt snd lim SP wi MA l1 o' (mpu s (.inr r)) → K (.returned none) h') : MW G d e_X1_push [.ref A, .ref a] (h1.sR 3718 a (some b)) K := by
  have f2 : Fq (P1 3718 a) h1 (h1.sR 3718 a (some b)) := (Fq.refl h1).sR P1.i
  have e1 : (h1.sR 3718 a (some b)).R 3718 a = some b := by simp [n_sI, z_sI, tag_sI, I_sI, J_sI, R_sI, EI_sI, EJ_sI, ER_sI, n_sJ, z_sJ, tag_sJ, I_sJ, J_sJ, R_sJ, EI_sJ, EJ_sJ, ER_sJ, n_sR, z_sR, tag_sR, I_sR, J_sR, R_sR, EI_sR, EJ_sR, ER_sR, n_sEI, z_sEI, tag_sEI, I_sEI, J_sEI, R_sEI, EI_sEI, EJ_sEI, ER_sEI, n_sEJ, z_sEJ, tag_sEJ, I_sEJ, J_sEJ, R_sEJ, EI_sEJ, EJ_sEJ, ER_sEJ, n_sER, z_sER, tag_sER, I_sER, J_sER, R_sER, EI_sER, EJ_sER, ER_sER, n_nw, z_nw, tag_nw, I_nw, J_nw, R_nw, EI_nw, EJ_nw, ER_nw]
  generalize h1.sR 3718 a (some b) = h2 at *
  have v2 := v1.oth6 f2 (fun g a' _ hg z => hg z.1)
  have pv : ∀ g a', P1 3718 a g a' → VQ g a' := fun g a' z => Or.inl (by rw [z.1]; decide)
  refine H.push (h1 := h2) (l1 := l1) (x := (a, 8, (0, 0), .leaf)) (i := .inr r) ht hn (f1.trans (f2.1.mono pv)) v2 (fun p y hp hy => ?_) ⟨rfl, rfl, b, hr, e1⟩ fun h' o' u1 u2 _ => kk h' o' u1 u2
  rw [f2.1.R (fun z => ?_), tg p y hp hy]
  have z2 : y.1 = a := z.2
  have hpn : p ≠ (1, wi, t, (stk s).length) := fun e => by rw [e, H.free ht] at hy; cases hy
  exact v1.2.1.2 p _ y _ hpn (by rw [uO_n hpn]; exact hy) uO_s y.1 (adr_1 y) (by rw [z2]; exact adr_1 (a, 8, (0, 0), .leaf))
theorem cuseLocal_ok {op k : Nat} (H : OPR G B h A W q BA X tt snd lim SP wi MA l o s) (ho : 11 ≤ op ∧ op < 16) (hk : k < 40) (hL : ∀ v, lcs s k = some (.inl v) → VW v) (h64 : op ≠ 13 → (stk s).length < 64) (h13 : op = 13 → ∀ r t', stk s = .inr r :: t' → r.1 ≠ (s.1, k)) (hav : lim + 8 ≤ av G h l + gas s) (hd : 50 ≤ d) (hne : oLoc lim op k s ≠ none) (kk : RZ K G B h A W q BA X tt snd lim SP wi MA o (oLoc lim op k s)) : MW G d e_X1_useLocal [.ref A, .int (nI op), .int (nI k)] h K := by
  refine st_X1_useLocal fun XX oo hG hD _ => ?_
  subst hG; subst hD
  obtain ⟨c, v, w, hf, hg, hw⟩ := id H
  obtain ⟨t, ht⟩ : ∃ t, t + 1 = s.1 := ⟨s.1 - 1, by have := w.1.2.2.1; omega⟩
  rw [show s.1 - 1 = t by omega] at hf
  have t32 : t < 32 := by have := w.1.2.2.2.1; omega
  have t0 := c.1.1
  have r1 := c.1.2.1
  have tq := v.1.1
  obtain ⟨⟨f1, f2, f3, f4, f5⟩, m, es, el⟩ := w.F ht
  have ix : IX (nI k) 40 k := IX.mk (by omega) (by omega)
  have loc := H.loc ht hk hL
  refine k_X1_useLocal_0 oo ?_
  unfold oLoc at hne kk
  by_cases c13 : op = 13
  · subst c13
    rw [if_pos rfl] at hne kk
    show V XX K 77 _ _ _
    cases hst : stk s with
    | nil => rw [hst] at hne; exact absurd rfl hne
    | cons i ks =>
      rw [hst] at hne kk
      obtain ⟨e1, e2⟩ := mre_n hne
      have kk : RZ K XX.G B h A W q BA X tt snd lim SP wi MA o (mre (nrr (sK s ks) (s.1, k)) (mgo (sLK s (uLc (lcs s) k (some i)) ks))) := kk
      rw [e2] at kk
      have kk : ∀ h' l' o', OUT wi W h h' o o' → OPR XX.G B h' A W q BA X tt snd lim SP wi MA l' o' (sLK s (uLc (lcs s) k (some i)) ks) → K (.returned none) h' := kk
      obtain ⟨⟨m1, m2, m3, m4, m5⟩, m6, m7, m8, m9⟩ := id m
      rw [← es, hst] at m4 m5 m6 m7
      obtain ⟨⟨x, x1, x2, x3⟩, s2⟩ := m6
      have m5 : ks.length + 1 ≤ 64 := m5
      have fin : ∀ h1 l1 lx, Fr VQ h h1 → VH XX.G B h1 q l1 (uO o (2, wi, t, k) none) → TG o [(2, wi, t, k)] h h1 → V XX K 89 [.ref A, .int (nI 13), .int (nI k), lx, nov] [] h1 := fun h1 l1 lx g1 v1 tg1 => by
        have fi1 : Fr (IP W) h h1 := g1.mono VQ.ip
        have c1 := c.ip fi1
        have hf1 : h1.R 28 A = some (Fa W t) := by rw [g1.R (VQ.no (l := [28]) rfl _ _ rfl)]; exact hf
        have nq := VQ.no (l := swF ++ fmF) rfl
        have sf : SFr h1 (Fa W t) := (w.1.1.2.2.1 t t32).2.fr g1 (VQ.no (l := swF) rfl)
        obtain ⟨f1', f2', f3', f4', f5'⟩ := id sf
        have t1 := c1.1.1
        refine k_X1_useLocal_89 oo ?_
        refine cpop_lo (F := Fa W t) (n := ks.length) (a := x.1) t1 hf1 sf (by rw [g1.I (nq _ _ rfl)]; exact m4) (by omega) (by rw [g1.ER (nq _ _ rfl)]; exact x2) ?_
        have hx1 : uO o (2, wi, t, k) none (1, wi, t, ks.length) = some x := by rw [uO_n pp_12]; exact x1
        have tgx : h1.tag x.1 = some (29, 0) := (v1.2.2.2 _ x hx1).1.1
        have tgl : (h1.sI 2565 (Fa W t) (nI ks.length)).tag (Fa W t + 1) = some (731, 40) := f4'
        have ft : fitE (h1.sI 2565 (Fa W t) (nI ks.length)) 11 (some x.1) := tgx
        refine k_X1_useLocal_101 (T1 := 731) oo ?_
        have fq : Fq (fun g a => fmF.contains g = true ∧ Fa W t ≤ a ∧ a < Fa W t + 3) h1 ((h1.sI 2565 (Fa W t) (nI ks.length)).sER 731 (Fa W t + 1) k (some x.1)) := ((Fq.refl h1).sI (f := 2565) (a := Fa W t) ⟨rfl, by omega, by omega⟩).sER (t := 731) (a := Fa W t + 1) ⟨rfl, by omega, by omega⟩
        have q1 : ((h1.sI 2565 (Fa W t) (nI ks.length)).sER 731 (Fa W t + 1) k (some x.1)).I 2565 (Fa W t) = nI ks.length := by simp [n_sI, z_sI, tag_sI, I_sI, J_sI, R_sI, EI_sI, EJ_sI, ER_sI, n_sJ, z_sJ, tag_sJ, I_sJ, J_sJ, R_sJ, EI_sJ, EJ_sJ, ER_sJ, n_sR, z_sR, tag_sR, I_sR, J_sR, R_sR, EI_sR, EJ_sR, ER_sR, n_sEI, z_sEI, tag_sEI, I_sEI, J_sEI, R_sEI, EI_sEI, EJ_sEI, ER_sEI, n_sEJ, z_sEJ, tag_sEJ, I_sEJ, J_sEJ, R_sEJ, EI_sEJ, EJ_sEJ, ER_sEJ, n_sER, z_sER, tag_sER, I_sER, J_sER, R_sER, EI_sER, EJ_sER, ER_sER, n_nw, z_nw, tag_nw, I_nw, J_nw, R_nw, EI_nw, EJ_nw, ER_nw]
        have q2 : ∀ n, ((h1.sI 2565 (Fa W t) (nI ks.length)).sER 731 (Fa W t + 1) k (some x.1)).ER 747 (Fa W t + 2) n = h1.ER 747 (Fa W t + 2) n := fun n => by simp [n_sI, z_sI, tag_sI, I_sI, J_sI, R_sI, EI_sI, EJ_sI, ER_sI, n_sJ, z_sJ, tag_sJ, I_sJ, J_sJ, R_sJ, EI_sJ, EJ_sJ, ER_sJ, n_sR, z_sR, tag_sR, I_sR, J_sR, R_sR, EI_sR, EJ_sR, ER_sR, n_sEI, z_sEI, tag_sEI, I_sEI, J_sEI, R_sEI, EI_sEI, EJ_sEI, ER_sEI, n_sEJ, z_sEJ, tag_sEJ, I_sEJ, J_sEJ, R_sEJ, EI_sEJ, EJ_sEJ, ER_sEJ, n_sER, z_sER, tag_sER, I_sER, J_sER, R_sER, EI_sER, EJ_sER, ER_sER, n_nw, z_nw, tag_nw, I_nw, J_nw, R_nw, EI_nw, EJ_nw, ER_nw]
        have q3 : ∀ n, ((h1.sI 2565 (Fa W t) (nI ks.length)).sER 731 (Fa W t + 1) k (some x.1)).ER 731 (Fa W t + 1) n = if n = k then some x.1 else h1.ER 731 (Fa W t + 1) n := fun n => by
          by_cases e : n = k
          · rw [if_pos e, e]; simp [n_sI, z_sI, tag_sI, I_sI, J_sI, R_sI, EI_sI, EJ_sI, ER_sI, n_sJ, z_sJ, tag_sJ, I_sJ, J_sJ, R_sJ, EI_sJ, EJ_sJ, ER_sJ, n_sR, z_sR, tag_sR, I_sR, J_sR, R_sR, EI_sR, EJ_sR, ER_sR, n_sEI, z_sEI, tag_sEI, I_sEI, J_sEI, R_sEI, EI_sEI, EJ_sEI, ER_sEI, n_sEJ, z_sEJ, tag_sEJ, I_sEJ, J_sEJ, R_sEJ, EI_sEJ, EJ_sEJ, ER_sEJ, n_sER, z_sER, tag_sER, I_sER, J_sER, R_sER, EI_sER, EJ_sER, ER_sER, n_nw, z_nw, tag_nw, I_nw, J_nw, R_nw, EI_nw, EJ_nw, ER_nw]
          · rw [if_neg e]; simp [n_sI, z_sI, tag_sI, I_sI, J_sI, R_sI, EI_sI, EJ_sI, ER_sI, n_sJ, z_sJ, tag_sJ, I_sJ, J_sJ, R_sJ, EI_sJ, EJ_sJ, ER_sJ, n_sR, z_sR, tag_sR, I_sR, J_sR, R_sR, EI_sR, EJ_sR, ER_sR, n_sEI, z_sEI, tag_sEI, I_sEI, J_sEI, R_sEI, EI_sEI, EJ_sEI, ER_sEI, n_sEJ, z_sEJ, tag_sEJ, I_sEJ, J_sEJ, R_sEJ, EI_sEJ, EJ_sEJ, ER_sEJ, n_sER, z_sER, tag_sER, I_sER, J_sER, R_sER, EI_sER, EJ_sER, ER_sER, n_nw, z_nw, tag_nw, I_nw, J_nw, R_nw, EI_nw, EJ_nw, ER_nw, e]
        have q4 : ((h1.sI 2565 (Fa W t) (nI ks.length)).sER 731 (Fa W t + 1) k (some x.1)).R 2560 (Fa W t) = h1.R 2560 (Fa W t) := by simp [n_sI, z_sI, tag_sI, I_sI, J_sI, R_sI, EI_sI, EJ_sI, ER_sI, n_sJ, z_sJ, tag_sJ, I_sJ, J_sJ, R_sJ, EI_sJ, EJ_sJ, ER_sJ, n_sR, z_sR, tag_sR, I_sR, J_sR, R_sR, EI_sR, EJ_sR, ER_sR, n_sEI, z_sEI, tag_sEI, I_sEI, J_sEI, R_sEI, EI_sEI, EJ_sEI, ER_sEI, n_sEJ, z_sEJ, tag_sEJ, I_sEJ, J_sEJ, R_sEJ, EI_sEJ, EJ_sEJ, ER_sEJ, n_sER, z_sER, tag_sER, I_sER, J_sER, R_sER, EI_sER, EJ_sER, ER_sER, n_nw, z_nw, tag_nw, I_nw, J_nw, R_nw, EI_nw, EJ_nw, ER_nw]
        have q5 : ((h1.sI 2565 (Fa W t) (nI ks.length)).sER 731 (Fa W t + 1) k (some x.1)).R 2561 (Fa W t) = h1.R 2561 (Fa W t) := by simp [n_sI, z_sI, tag_sI, I_sI, J_sI, R_sI, EI_sI, EJ_sI, ER_sI, n_sJ, z_sJ, tag_sJ, I_sJ, J_sJ, R_sJ, EI_sJ, EJ_sJ, ER_sJ, n_sR, z_sR, tag_sR, I_sR, J_sR, R_sR, EI_sR, EJ_sR, ER_sR, n_sEI, z_sEI, tag_sEI, I_sEI, J_sEI, R_sEI, EI_sEI, EJ_sEI, ER_sEI, n_sEJ, z_sEJ, tag_sEJ, I_sEJ, J_sEJ, R_sEJ, EI_sEJ, EJ_sEJ, ER_sEJ, n_sER, z_sER, tag_sER, I_sER, J_sER, R_sER, EI_sER, EJ_sER, ER_sER, n_nw, z_nw, tag_nw, I_nw, J_nw, R_nw, EI_nw, EJ_nw, ER_nw]
        have q6 : ((h1.sI 2565 (Fa W t) (nI ks.length)).sER 731 (Fa W t + 1) k (some x.1)).I 2562 (Fa W t) = h1.I 2562 (Fa W t) := by simp [n_sI, z_sI, tag_sI, I_sI, J_sI, R_sI, EI_sI, EJ_sI, ER_sI, n_sJ, z_sJ, tag_sJ, I_sJ, J_sJ, R_sJ, EI_sJ, EJ_sJ, ER_sJ, n_sR, z_sR, tag_sR, I_sR, J_sR, R_sR, EI_sR, EJ_sR, ER_sR, n_sEI, z_sEI, tag_sEI, I_sEI, J_sEI, R_sEI, EI_sEI, EJ_sEI, ER_sEI, n_sEJ, z_sEJ, tag_sEJ, I_sEJ, J_sEJ, R_sEJ, EI_sEJ, EJ_sEJ, ER_sEJ, n_sER, z_sER, tag_sER, I_sER, J_sER, R_sER, EI_sER, EJ_sER, ER_sER, n_nw, z_nw, tag_nw, I_nw, J_nw, R_nw, EI_nw, EJ_nw, ER_nw]
        generalize (h1.sI 2565 (Fa W t) (nI ks.length)).sER 731 (Fa W t + 1) k (some x.1) = h2 at *
        refine k_X1_useLocal_128 oo ?_
        have nv2 : ∀ g a, VQ g a → ¬ (fmF.contains g = true ∧ Fa W t ≤ a ∧ a < Fa W t + 3) := fun g a z z2 => VQ.no (l := fmF) rfl g a z2.1 z
        obtain ⟨v2, tg2⟩ := v1.oth fq nv2
        have v3 := v2.mov hx1 (r := (2, wi, t, k)) (by rw [uO_s])
        rw [uO_c pp_12.symm, uO_u, ← uO_c pp_12.symm] at v3
        have fi : Fr (IP W) h h2 := fi1.trans (fq.1.mono fun g a z => PTF.ip t32 g a (Or.inl z))
        have tgo : ∀ p y, p ≠ (2, wi, t, k) → o p = some y → h2.R 3718 y.1 = h.R 3718 y.1 := fun p y hp hy => by rw [tg2 p y (by simp) (by rw [uO_n hp]; exact hy), tg1 p y (by simpa using hp) hy]
        -- references
        have rk : ∀ r : Rx, r.1 ≠ (s.1, k) → rad (uO (uO o (2, wi, t, k) (some x)) (1, wi, t, ks.length) none) wi r = rad o wi r := fun r hr => by
          rw [rad_u rsl_1, rad_u (rsl_2 (by rw [ht]; exact hr))]
        have nr : ∀ j, j < s.1 → ∀ r ∈ rfF ((sK s ks).2.1 j), r.1 ≠ (s.1, k) := fun j hj r hr => nrr_t e1 hj hr
        have ets : (sK s ks).2.1 t = ((s.2.1 t).1, (s.2.1 t).2.1, (s.2.1 t).2.2.1, ks) := by
          show uF s.2.1 (s.1 - 1) ((tpf s).1, (tpf s).2.1, (tpf s).2.2.1, ks) t = _
          rw [tpt ht, show s.1 - 1 = t by omega, uF_s]
        have ej : ∀ j, j < t → (sK s ks).2.1 j = s.2.1 j := fun j hj => by
          show uF s.2.1 (s.1 - 1) _ j = _
          exact if_neg (by omega)
        have nrs : ∀ r ∈ ks.flatMap rfI, r.1 ≠ (s.1, k) := fun r hr => nr t (by omega) r (by rw [ets]; exact List.mem_append_left _ hr)
        refine kk h2 l1 _ ⟨fi, fun p hp => ⟨?_, fun y hy => tgo p y ?_ hy⟩⟩ ⟨c.ip fi, v3, ?_, ?_, hg, (hw.vq g1).fr fq.1 (fun _ z => absurd z.1 (by decide)) (fun _ z => absurd z.1 (by decide))⟩
        · have n1 : p ≠ (1, wi, t, ks.length) := fun e => by
            subst e
            rcases hp with z | z
            · revert z; show (1 = 0 ∨ 3 < 1) → False; omega
            · exact z rfl
          have n2 : p ≠ (2, wi, t, k) := fun e => by
            subst e
            rcases hp with z | z
            · revert z; show (2 = 0 ∨ 3 < 2) → False; omega
            · exact z rfl
          rw [uO_n n1, uO_n n2]
        · intro e
          subst e
          rcases hp with z | z
          · revert z; show (2 = 0 ∨ 3 < 2) → False; omega
          · exact z rfl
        · unfold sLK
          have fpt : Fr (PTF (Fa W t)) h h2 := (g1.mono VQ.pt).trans (fq.1.mono fun g a z => Or.inl z)
          refine w.top ht fpt (fun p hp => ?_) (fun p y hp1 hp2 hp3 hy => tgo p y (fun e => by subst e; exact hp3 rfl) hy) (fun j hj r hr a ha => ?_) ?_
          · have n1 : p ≠ (1, wi, t, ks.length) := fun e => by
              subst e
              rcases hp with z | z
              · revert z; show (1 = 3) → False; omega
              · exact z.2.2 rfl
            have n2 : p ≠ (2, wi, t, k) := fun e => by
              subst e
              rcases hp with z | z
              · revert z; show (2 = 3) → False; omega
              · exact z.2.2 rfl
            rw [uO_n n1, uO_n n2]
          · rw [rk r (nr j (by omega) r (by rw [ej j hj]; exact hr))]; exact ha
          · rw [tpt ht]
            refine ⟨⟨by rw [q4, g1.R (nq _ _ rfl)]; exact m1, by rw [q5, g1.R (nq _ _ rfl)]; exact m2, by rw [q6, g1.I (nq _ _ rfl)]; exact m3, q1, by show ks.length ≤ 64; omega⟩, s2.keep (fun n hn => ?_) (fun n hn => by rw [q2, g1.ER (nq _ _ rfl)]) (fun n y hn hy => tgo _ y pp_12 hy) (fun r hr a ha => by rw [rk r (nrs r hr)]; exact ha), fun n hn => ?_, fun n hn => ?_, fun n hn => ?_⟩
            · rw [uO_n (fun e => by have : n = ks.length := congrArg (fun p : Sl => p.2.2.2) e; omega), uO_n pp_12]
            · by_cases e : n = ks.length
              · rw [e, uO_s]
              · rw [uO_n (fun z => e (congrArg (fun p : Sl => p.2.2.2) z)), uO_n pp_12]
                exact m7 n (by show ks.length + 1 ≤ n; have hn : ks.length ≤ n := hn; omega)
            · rw [q3]
              by_cases e : n = k
              · subst e
                rw [if_pos rfl]
                show match uLc (lcs s) n (some i) n with
                  | some i => ∃ x', uO (uO o (2, wi, t, n) (some x)) (1, wi, t, ks.length) none (2, wi, t, n) = some x' ∧ some x.1 = some x'.1 ∧ ItL h2 (uO (uO o (2, wi, t, n) (some x)) (1, wi, t, ks.length) none) wi i x'
                  | none => _
                rw [show uLc (lcs s) n (some i) n = some i from if_pos rfl]
                refine ⟨x, by rw [uO_n pp_12.symm, uO_s], rfl, x3.keep (tgo _ x pp_12 x1) fun r hr a ha => ?_⟩
                subst hr
                rw [rk r (h13 rfl r ks hst)]; exact ha
              · rw [if_neg e, g1.ER (nq _ _ rfl), uO_n pp_12.symm, uO_n (fun z => e (congrArg (fun p : Sl => p.2.2.2) z))]
                show match uLc (lcs s) k (some i) n with
                  | some i => _
                  | none => _
                rw [show uLc (lcs s) k (some i) n = lcs s n from if_neg e]
                have := m8 n hn
                rw [← el] at this
                cases hl : lcs s n with
                | none => rw [hl] at this; exact this
                | some i' =>
                  rw [hl] at this
                  obtain ⟨y, y1, y2, y3⟩ := this
                  refine ⟨y, y1, y2, y3.keep (tgo _ y (fun z => e (congrArg (fun p : Sl => p.2.2.2) z)) y1) fun r hr a ha => ?_⟩
                  subst hr
                  rw [rk r (nr t (by omega) r (by rw [ets]; exact rfF_i.mpr (Or.inr ⟨n, hn, by rw [← hl, el]⟩)))]
                  exact ha
            · rw [uO_n pp_12.symm, uO_n (fun z => by have : n = k := congrArg (fun p : Sl => p.2.2.2) z; omega)]
              exact m9 n hn
        · show h2.R 28 A = some (Fa W (s.1 - 1))
          rw [fq.1.R (fun z => absurd z.1 (by decide)), show s.1 - 1 = t by omega]; exact hf1
      rcases loc with ⟨l1, l2, l3⟩ | ⟨y, y1, y2, y3, y4, -⟩
      · rw [l3]
        refine k_X1_useLocal_77 oo (fun _ => ?_) (fun a c => by cases c)
        exact fin h l _ (Fr.refl h) (by rw [uO_e l2]; exact v) (fun p y _ _ => rfl)
      · rw [y2]
        refine k_X1_useLocal_77 oo (fun c => by cases c) (fun a c => ?_)
        have c : y.1 = a := Option.some.inj c
        rw [← c]
        refine k_X1_useLocal_81 oo ?_
        refine vdrop_ok v y1 (by omega) fun h1 l1 g1 n1 v1 tg1 a1 => ?_
        exact fin h1 l1 _ g1 v1 tg1
  · rw [if_neg c13] at hne kk
    cases hl : lcs s k with
    | none => rw [hl] at hne; exact absurd rfl hne
    | some i =>
      rw [hl] at hne kk
      simp only at hne kk
      have hst64 := h64 c13
      rcases loc with ⟨l1, -⟩ | ⟨y, y1, y2, y3, y4, y5⟩
      · rw [hl] at l1; cases l1
      obtain ⟨y5, y6, y7⟩ := y5 i hl
      rw [y2]
      by_cases c11 : op = 11
      · subst c11
        rw [if_pos rfl] at hne kk
        show V XX K 36 _ _ _
        refine k_X1_useLocal_36 oo ?_
        refine size_ok y4 (by omega) ?_
        refine k_X1_useLocal_41 oo ?_
        rw [← y6]
        refine cpay_ok (k := fun s => mgo (mpu s i)) H (by omega) (by omega) (fun h1 s1 u1 H1 es1 av1 em => ?_) (fun em => by rw [em] at kk; exact kk)
        rw [em] at kk
        subst es1
        have kk : ∀ h' l' o', OUT wi W h h' o o' → OPR XX.G B h' A W q BA X tt snd lim SP wi MA l' o' (mpu (sG s (gas s + isz i)) i) → K (.returned none) h' := kk
        have hg1 : gas s + isz i ≤ lim := H1.2.2.2.2.1
        have t1 := H1.1.1.1
        have r1' := H1.1.1.2.1
        refine k_X1_useLocal_44 oo ?_
        refine vcopy_ok H1.2.1 y1 (pa := []) rfl (H1.free ht) (by rw [av1]; omega) (by omega) fun h2 z l2 f2 v2 tg2 a2 e2 e3 => ?_
        have t2 := (H1.1.ip (f2.mono (VQ.ip (W := W)))).1.1
        refine k_X1_useLocal_53 oo ?_
        have y5' : ItL h1 o wi i y := by
          obtain ⟨-, m', -, el'⟩ := H1.2.2.1.F ht
          have := m'.2.2.2.1 k hk
          rw [← el', show lcs (sG s (gas s + isz i)) k = some i from hl] at this
          obtain ⟨y', q1, -, q2⟩ := this
          rw [y1] at q1
          cases q1
          exact q2
        refine H1.push (i := i) ht hst64 f2 v2 tg2 ?_ fun h3 o3 u3 H3 _ => ?_
        · cases i with
          | inl vv =>
            show lvE z = vv
            rw [e2]; exact y5'
          | inr r =>
            obtain ⟨p1, p2, a, p3, p4⟩ := y5'
            have e2 : ((z.2.1, z.2.2.1, fer z.2.2.2) : VL) = (y.2.1, y.2.2.1, fer y.2.2.2) := e2
            refine ⟨?_, ?_, a, p3, by rw [e3]; exact p4⟩
            · have : z.2.1 = y.2.1 := congrArg (fun p : VL => p.1) e2
              rw [this]; exact p1
            · have : fer z.2.2.2 = fer y.2.2.2 := congrArg (fun p : VL => p.2.2) e2
              rw [p2] at this
              cases hz : z.2.2.2 with
              | leaf => rfl
              | inner a b c e f => rw [hz] at this; cases this
        · exact k_X1_useLocal_56 oo (k_X1_useLocal_128 oo (kk h3 l2 o3 (u1.trans u3) H3))
      · rw [if_neg c11] at hne kk
        by_cases c12 : op = 12
        · subst c12
          rw [if_pos rfl] at hne kk
          obtain ⟨e1, e2⟩ := mre_n hne
          rw [e2] at kk
          have kk : ∀ h' l' o', OUT wi W h h' o o' → OPR XX.G B h' A W q BA X tt snd lim SP wi MA l' o' (sLK s (uLc (lcs s) k none) (i :: stk s)) → K (.returned none) h' := kk
          show V XX K 59 _ _ _
          refine k_X1_useLocal_59 oo ?_
          obtain ⟨⟨m1, m2, m3, m4, m5⟩, m6, m7, m8, m9⟩ := id m
          have fq : Fq (fun g a => g = 10000 + 731 ∧ a = Fa W t + 1) h (h.sER 731 (Fa W t + 1) k none) := (Fq.refl h).sER (t := 731) (a := Fa W t + 1) ⟨rfl, rfl⟩
          have q3 : ∀ n, (h.sER 731 (Fa W t + 1) k none).ER 731 (Fa W t + 1) n = if n = k then none else h.ER 731 (Fa W t + 1) n := fun n => by
            by_cases e : n = k
            · rw [if_pos e, e]; simp [n_sI, z_sI, tag_sI, I_sI, J_sI, R_sI, EI_sI, EJ_sI, ER_sI, n_sJ, z_sJ, tag_sJ, I_sJ, J_sJ, R_sJ, EI_sJ, EJ_sJ, ER_sJ, n_sR, z_sR, tag_sR, I_sR, J_sR, R_sR, EI_sR, EJ_sR, ER_sR, n_sEI, z_sEI, tag_sEI, I_sEI, J_sEI, R_sEI, EI_sEI, EJ_sEI, ER_sEI, n_sEJ, z_sEJ, tag_sEJ, I_sEJ, J_sEJ, R_sEJ, EI_sEJ, EJ_sEJ, ER_sEJ, n_sER, z_sER, tag_sER, I_sER, J_sER, R_sER, EI_sER, EJ_sER, ER_sER, n_nw, z_nw, tag_nw, I_nw, J_nw, R_nw, EI_nw, EJ_nw, ER_nw]
            · rw [if_neg e]; simp [n_sI, z_sI, tag_sI, I_sI, J_sI, R_sI, EI_sI, EJ_sI, ER_sI, n_sJ, z_sJ, tag_sJ, I_sJ, J_sJ, R_sJ, EI_sJ, EJ_sJ, ER_sJ, n_sR, z_sR, tag_sR, I_sR, J_sR, R_sR, EI_sR, EJ_sR, ER_sR, n_sEI, z_sEI, tag_sEI, I_sEI, J_sEI, R_sEI, EI_sEI, EJ_sEI, ER_sEI, n_sEJ, z_sEJ, tag_sEJ, I_sEJ, J_sEJ, R_sEJ, EI_sEJ, EJ_sEJ, ER_sEJ, n_sER, z_sER, tag_sER, I_sER, J_sER, R_sER, EI_sER, EJ_sER, ER_sER, n_nw, z_nw, tag_nw, I_nw, J_nw, R_nw, EI_nw, EJ_nw, ER_nw, e]
          generalize h.sER 731 (Fa W t + 1) k none = h1 at *
          have np : ∀ g a, g ≠ 10000 + 731 → ¬ (g = 10000 + 731 ∧ a = Fa W t + 1) := fun g a h1 z => h1 z.1
          have fpt : Fr (PTF (Fa W t)) h h1 := fq.1.mono fun g a z => Or.inl ⟨by rw [z.1]; rfl, by omega, by omega⟩
          obtain ⟨v1, tg1⟩ := v.oth fq (fun g a z z2 => by rw [z2.1] at z; rcases z with z | z <;> exact absurd z (by decide))
          have rk : ∀ r : Rx, r.1 ≠ (s.1, k) → rad (uO o (2, wi, t, k) none) wi r = rad o wi r := fun r hr => rad_u (rsl_2 (by rw [ht]; exact hr))
          have v2 := v1.mov y1 (H.free ht)
          have ht1 : t + 1 = (sLK s (uLc (lcs s) k none) (stk s)).1 := ht
          -- the worker without the local
          have w1 : WkR h1 (uO o (2, wi, t, k) none) wi W MA (sLK s (uLc (lcs s) k none) (stk s)) := by
            unfold sLK
            refine w.top ht fpt (fun p hp => uO_n fun e => ?_) (fun p y' hp1 hp2 hp3 hy => tg1 p y' (by simp) hy) (fun j hj r hr a ha => ?_) ?_
            · subst e
              rcases hp with z | z
              · revert z; show (2 = 3) → False; omega
              · exact z.2.2 rfl
            · rw [rk r (nrr_t e1 (by omega) hr)]; exact ha
            · rw [tpt ht, es]
              refine ⟨⟨by rw [fq.1.R (np _ _ (by decide))]; exact m1, by rw [fq.1.R (np _ _ (by decide))]; exact m2, by rw [fq.1.I (np _ _ (by decide))]; exact m3, by rw [fq.1.I (np _ _ (by decide))]; exact m4, m5⟩, m6.keep (fun n hn => uO_n pp_12) (fun n hn => fq.1.ER (np _ _ (by decide)) n) (fun n y' hn hy => tg1 _ y' (by simp) hy) (fun r hr a ha => by rw [rk r (nrr_t e1 (by omega) (List.mem_append_left _ hr))]; exact ha), fun n hn => by rw [uO_n pp_12]; exact m7 n hn, fun n hn => ?_, fun n hn => by rw [uO_n (fun z => by have : n = k := congrArg (fun p : Sl => p.2.2.2) z; omega)]; exact m9 n hn⟩
              rw [q3]
              by_cases e : n = k
              · subst e
                rw [if_pos rfl, uO_s]
                show match uLc (lcs s) n none n with
                  | some i => _
                  | none => _
                rw [show uLc (lcs s) n none n = none from if_pos rfl]
                exact Or.inl ⟨rfl, rfl⟩
              · rw [if_neg e, uO_n (fun z => e (congrArg (fun p : Sl => p.2.2.2) z))]
                show match uLc (lcs s) k none n with
                  | some i => _
                  | none => _
                rw [show uLc (lcs s) k none n = lcs s n from if_neg e]
                have := m8 n hn
                rw [← el] at this
                cases hl' : lcs s n with
                | none => rw [hl'] at this; exact this
                | some i' =>
                  rw [hl'] at this
                  obtain ⟨y', y1', y2', y3'⟩ := this
                  refine ⟨y', y1', y2', y3'.keep (tg1 _ y' (by simp) y1') fun r hr a ha => ?_⟩
                  subst hr
                  rw [rk r (nrr_t e1 (j := t) (by omega) (rfF_i.mpr (Or.inr ⟨n, hn, by rw [← hl', el]⟩)))]
                  exact ha
          have ek : stk (sLK s (uLc (lcs s) k none) (stk s)) = stk s := by
            show (uF s.2.1 (s.1 - 1) _ (s.1 - 1)).2.2.2 = _
            rw [uF_s]
          have fi1 : Fr (IP W) h h1 := fpt.mono (PTF.ip t32)
          have hf1 : h1.R 28 A = some (Fa W t) := by rw [fq.1.R (np _ _ (by decide))]; exact hf
          refine cpush_ok (i := i) (c.ip fi1) w1 hf1 ht1 (by rw [ek]; exact hst64) (v1.2.2.2 _ y y1).1.1 (y5.keep (tg1 _ y (by simp) y1) fun r hr a ha => ?_) fun h2 f2' w2 => ?_
          · subst hr
            rw [rk r (nrr_t e1 (j := t) (by omega) (rfF_i.mpr (Or.inr ⟨k, hk, by rw [← hl, el]⟩)))]
            exact ha
          · rw [ek] at w2
            have em : mpu (sLK s (uLc (lcs s) k none) (stk s)) i = sLK s (uLc (lcs s) k none) (i :: stk s) := by
              unfold mpu
              rw [ek]
              unfold sK sLK
              rw [sF_sF]
              show sF s ((tpf (sF s _)).1, _, _, _) = _
              rw [show ∀ f, tpf (sF s f) = f from fun f => by show uF s.2.1 (s.1 - 1) f (s.1 - 1) = f; rw [uF_s]]
            rw [em] at w2
            obtain ⟨v3, tg3⟩ := v2.oth f2' PH.v
            have fi : Fr (IP W) h h2 := fi1.trans (f2'.1.mono (PH.ip t32))
            refine k_X1_useLocal_74 oo (k_X1_useLocal_128 oo (kk h2 l _ ⟨fi, fun p hp => ?_⟩ ⟨c.ip fi, v3, w2, ?_, hg, (hw.fr fq.1 (fun _ z => absurd z.1 (by decide)) (fun _ z => absurd z.1 (by decide))).ph f2'.1⟩))
            · have n1 : p ≠ (1, wi, t, (stk s).length) := fun e => by
                subst e
                rcases hp with z | z
                · revert z; show (1 = 0 ∨ 3 < 1) → False; omega
                · exact z rfl
              have n2 : p ≠ (2, wi, t, k) := fun e => by
                subst e
                rcases hp with z | z
                · revert z; show (2 = 0 ∨ 3 < 2) → False; omega
                · exact z rfl
              refine ⟨by rw [uO_n n1, uO_n n2], fun z hz => ?_⟩
              rw [tg3 p z (by simp) (by rw [uO_n n1, uO_n n2]; exact hz), tg1 p z (by simp) hz]
            · show h2.R 28 A = some (Fa W (s.1 - 1))
              rw [f2'.1.R PH.f, show s.1 - 1 = t by omega]; exact hf1
        · rw [if_neg c12] at hne kk
          cases i with
          | inr r => exact absurd rfl hne
          | inl vv =>
            have kk : ∀ h' l' o', OUT wi W h h' o o' → OPR XX.G B h' A W q BA X tt snd lim SP wi MA l' o' (mpu s (.inr ((s.1, k), []))) → K (.returned none) h' := kk
            have sw : V XX K 105 [.ref A, .int (nI op), .int (nI k), .ref y.1, nov] [] h := by
              refine k_X1_useLocal_105 oo ?_
              refine vtake_ok (kd := 8) v (H.free ht) (by omega) (by omega) fun h1 a l1 g1 v1 tg1 a1 e1 => ?_
              have t1 := (c.ip (g1.mono (VQ.ip (W := W)))).1.1
              have ta := (v1.2.2.2 _ _ uO_s).1.1
              refine k_X1_useLocal_114 oo ?_
              refine H.pushR (r := ((s.1, k), [])) ht hst64 g1 v1 tg1 ?_ fun h' o' u1 H1 => ?_
              · rw [← ht]
                unfold rad
                rw [show rsl' wi (t + 1, k) = (2, wi, t, k) from rfl, y1]
                rfl
              · exact k_X1_useLocal_128 oo (kk h' l1 o' u1 H1)
            rcases (show op = 14 ∨ op = 15 by omega) with z | z
            · subst z; exact sw
            · subst z; exact sw
end
