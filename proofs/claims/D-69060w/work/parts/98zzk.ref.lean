/-! a worker of the component's: references -/
theorem pgn {n : Nat} {f : Nat → Nat} (hf : ∀ i, i ≤ n → f i < n) (hi : ∀ i j, i ≤ n → j ≤ n → i ≠ j → f i ≠ f j) : False := by
  have nd : ((List.range (n + 1)).map f).Nodup := by
    rw [List.nodup_iff_pairwise_ne, List.pairwise_map]
    refine List.Pairwise.imp_of_mem ?_ (List.nodup_iff_pairwise_ne.mp (List.nodup_range (n := n + 1)))
    intro a b ha hb hab
    have ha := List.mem_range.mp ha
    have hb := List.mem_range.mp hb
    exact hi a b (by omega) (by omega) hab
  have nd2 : ((List.range n).filter fun x => decide (x ∈ (List.range (n + 1)).map f)).Nodup := List.nodup_range.filter _
  have pm := (List.perm_ext_iff_of_nodup nd nd2).mpr fun x => by
    rw [List.mem_filter, List.mem_range, decide_eq_true_iff]
    refine ⟨fun hx => ⟨?_, hx⟩, fun hx => hx.2⟩
    obtain ⟨i, i1, i2⟩ := List.mem_map.mp hx
    have := List.mem_range.mp i1
    rw [← i2]
    exact hf i (by omega)
  have e := pm.length_eq
  have e2 := List.length_filter_le (fun x => decide (x ∈ (List.range (n + 1)).map f)) (List.range n)
  simp at e e2
  omega
/-- a slot that is free -/
theorem VH.slot {G : Gt} {B q : Nat} {h : AH} {l : List Nat} {o : Lc} (v : VH G B h q l o) (wi : Nat) : ∃ e, o (5, wi, e, 1) = none := by
  refine Classical.byContradiction fun c => ?_
  have c : ∀ e, ∃ x, o (5, wi, e, 1) = some x := fun e => by
    cases he : o (5, wi, e, 1) with
    | none => exact absurd ⟨e, he⟩ c
    | some x => exact ⟨x, rfl⟩
  refine pgn (n := h.n) (f := fun e => (Classical.choose (c e)).1) (fun i _ => ?_) fun i j _ _ hij e => ?_
  · exact (v.2.2.2 _ _ (Classical.choose_spec (c i))).2.2 _ (adr_1 _)
  · have h1 := Classical.choose_spec (c i)
    have h2 := Classical.choose_spec (c j)
    have e : (Classical.choose (c i)).1 = (Classical.choose (c j)).1 := e
    refine v.2.1.2 _ _ _ _ (fun z => hij (congrArg (fun p : Sl => p.2.2.1) z)) h1 h2 _ (adr_1 _) ?_
    rw [e]; exact adr_1 _
theorem fat_llo : ∀ {c : LF} {i : Nat} {a : LV}, (llo c)[i]? = some a → fat c i = some a.1
  | .leaf, i, a, h => by cases h
  | .inner k x _ c r, 0, a, h => by cases h; rfl
  | .inner k x _ c r, i + 1, a, h => fat_llo (c := r) (i := i) (show (llo r)[i]? = some a from h)
section
variable {G : Gt} {B d : Nat} {h : AH} {l : List Nat} {o : Lc} {wi W A q BA X tt lim SP t : Nat} {snd : Int64} {MA : Ma} {s : Ms} {K : Outcome → AH → Prop}
/-- the reference on top leads elsewhere -/
theorem OPR.ret {i : It} {k : List It} {x : LV} {b : Nat} {r' : Rx} (H : OPR G B h A W q BA X tt snd lim SP wi MA l o s) (ht : t + 1 = s.1) (hs : stk s = i :: k) (hx : o (1, wi, t, k.length) = some x) (h8 : x.2.1 = 8 ∧ x.2.2.2 = .leaf) (hr : rad o wi r' = some b) : OUT wi W h (h.sR 3718 x.1 (some b)) o o ∧ OPR G B (h.sR 3718 x.1 (some b)) A W q BA X tt snd lim SP wi MA l o (sK s (.inr r' :: k)) := by
  obtain ⟨c, v, w, hf, hg, hw⟩ := H
  have t32 : t < 32 := by have := w.1.2.2.2.1; omega
  have f1 : Fq (P1 3718 x.1) h (h.sR 3718 x.1 (some b)) := (Fq.refl h).sR P1.i
  have e1 : (h.sR 3718 x.1 (some b)).R 3718 x.1 = some b := by simp [n_sI, z_sI, tag_sI, I_sI, J_sI, R_sI, EI_sI, EJ_sI, ER_sI, n_sJ, z_sJ, tag_sJ, I_sJ, J_sJ, R_sJ, EI_sJ, EJ_sJ, ER_sJ, n_sR, z_sR, tag_sR, I_sR, J_sR, R_sR, EI_sR, EJ_sR, ER_sR, n_sEI, z_sEI, tag_sEI, I_sEI, J_sEI, R_sEI, EI_sEI, EJ_sEI, ER_sEI, n_sEJ, z_sEJ, tag_sEJ, I_sEJ, J_sEJ, R_sEJ, EI_sEJ, EJ_sEJ, ER_sEJ, n_sER, z_sER, tag_sER, I_sER, J_sER, R_sER, EI_sER, EJ_sER, ER_sER, n_nw, z_nw, tag_nw, I_nw, J_nw, R_nw, EI_nw, EJ_nw, ER_nw]
  generalize h.sR 3718 x.1 (some b) = h' at *
  have pv : ∀ g a', P1 3718 x.1 g a' → VQ g a' := fun g a' z => Or.inl (by rw [z.1]; decide)
  have np : ∀ g a, g ≠ 3718 → ¬ P1 3718 x.1 g a := fun g a h1 z => h1 z.1
  have v1 := v.oth6 f1 (fun g a' _ hg z => hg z.1)
  have tg : ∀ p y, p ≠ (1, wi, t, k.length) → o p = some y → h'.R 3718 y.1 = h.R 3718 y.1 := fun p y hp hy => f1.1.R fun z => by
    have z2 : y.1 = x.1 := z.2
    exact v.2.1.2 p _ y x hp hy hx y.1 (adr_1 y) (by rw [z2]; exact adr_1 x)
  have fi : Fr (IP W) h h' := (f1.1.mono pv).mono VQ.ip
  obtain ⟨-, m, es, el⟩ := w.F ht
  refine ⟨⟨fi, fun p hp => ⟨rfl, fun y hy => tg p y (fun e => ?_) hy⟩⟩, c.ip fi, v1, ?_, ?_, hg, hw.vq (f1.1.mono pv)⟩
  · subst e
    rcases hp with z | z
    · revert z; show (1 = 0 ∨ 3 < 1) → False; omega
    · exact z rfl
  · unfold sK
    refine w.top ht ((f1.1.mono pv).mono VQ.pt) (fun _ _ => rfl) (fun p y _ _ hp hy => tg p y (fun e => by subst e; exact hp rfl) hy) (fun _ _ _ _ _ ha => ha) ?_
    obtain ⟨⟨m1, m2, m3, m4, m5⟩, m6, m7, m8, m9⟩ := m
    rw [← es, hs] at m4 m5 m6 m7
    obtain ⟨⟨x', x1, x2, x3⟩, s2⟩ := m6
    rw [hx] at x1
    cases x1
    rw [tpt ht]
    refine ⟨⟨by rw [f1.1.R (np _ _ (by decide))]; exact m1, by rw [f1.1.R (np _ _ (by decide))]; exact m2, by rw [f1.1.I (np _ _ (by decide))]; exact m3, by rw [f1.1.I (np _ _ (by decide))]; exact m4, m5⟩, ⟨⟨x, hx, by rw [f1.1.ER (np _ _ (by decide))]; exact x2, h8.1, h8.2, b, hr, e1⟩, s2.keep (fun _ _ => rfl) (fun n _ => f1.1.ER (np _ _ (by decide)) n) (fun n y hn hy => tg _ y (fun e => by have : n = k.length := congrArg (fun p : Sl => p.2.2.2) e; omega) hy) (fun _ _ _ ha => ha)⟩, m7, m8.keep (fun _ _ => rfl) (fun n _ => f1.1.ER (np _ _ (by decide)) n) (fun n y hy => tg _ y (fun e => by cases e) hy) (fun _ _ _ _ _ ha => ha), m9⟩
  · rw [f1.1.R (np _ _ (by decide))]; exact hf
/-- the reference at some depth of the stack, and what it leads to -/
theorem OPR.rf {b : Nat} {r : Rx} {v : VL} (H : OPR G B h A W q BA X tt snd lim SP wi MA l o s) (ht : t + 1 = s.1) (hs : (stk s)[b]? = some (.inr r)) (hv : drf s r = some v) : ∃ x z y, o (1, wi, t, (stk s).length - 1 - b) = some x ∧ h.tag x.1 = some (29, 0) ∧ x.2.1 = 8 ∧ x.2.2.2 = .leaf ∧ o (rsl' wi r.1) = some z ∧ lva z r.2 = some y ∧ lvE y = v ∧ h.R 3718 x.1 = some y.1 ∧ rtv s r.1 = some (lvE z) ∧ RVL h y := by
  obtain ⟨-, m, es, -⟩ := H.2.2.1.F ht
  rw [es] at hs ⊢
  obtain ⟨x, x1, x2, x3⟩ := m.2.1.nth hs
  obtain ⟨z, y, z1, z2, z3, z4, z5⟩ := H.2.2.1.ref x3 hv
  exact ⟨x, z, y, x1, (H.2.1.2.2.2 _ x x1).1.1, x3.1, x3.2.1, z1, z2, z3, z4, z5, RVL.sub (H.2.1.2.2.2 _ z z1).1 z2⟩
theorem creference_ok {op b : Nat} (H : OPR G B h A W q BA X tt snd lim SP wi MA l o s) (ho : 16 ≤ op ∧ op < 21) (hb : b < 256) (hT : ∀ r t', stk s = .inr r :: t' → ∀ v, drf s r = some v → VW v) (hav : lim + 8 ≤ av G h l + gas s) (hd : 50 ≤ d) (hne : oRef lim op b s ≠ none) (kk : RZ K G B h A W q BA X tt snd lim SP wi MA o (oRef lim op b s)) : MW G d e_X1_reference [.ref A, .int (nI op), .int (nI b)] h K := by
  refine st_X1_reference fun XX oo hG hD _ => ?_
  subst hG; subst hD
  obtain ⟨c, v, w, hf, hg, hw⟩ := id H
  obtain ⟨t, ht⟩ : ∃ t, t + 1 = s.1 := ⟨s.1 - 1, by have := w.1.2.2.1; omega⟩
  rw [show s.1 - 1 = t by omega] at hf
  have t32 : t < 32 := by have := w.1.2.2.2.1; omega
  have t0 := c.1.1
  have r1 := c.1.2.1
  unfold oRef at hne kk
  cases hst : stk s with
  | nil => rw [hst] at hne; exact absurd rfl hne
  | cons i ks =>
    cases i with
    | inl v => rw [hst] at hne; exact absurd rfl hne
    | inr r =>
      rw [hst] at hne kk
      cases hdr : drf s r with
      | none => simp only [hdr] at hne; exact absurd rfl hne
      | some vv =>
        simp only [hdr] at hne kk
        have hVW := hT r ks hst vv hdr
        obtain ⟨x, z, y, x1, x2, x3, x4, z1, z2, z3, z4, z5, z6⟩ := H.rf ht (b := 0) (r := r) (v := vv) (by rw [hst]; rfl) hdr
        rw [hst] at x1
        have x1 : o (1, wi, t, ks.length) = some x := x1
        have ty : h.tag y.1 = some (29, 0) := z6.1
        have hra : rad o wi r = some y.1 := by unfold rad; rw [z1]; show (lva z r.2).map _ = _; rw [z2]; rfl
        have ev : vv = (y.2.1, y.2.2.1, fer y.2.2.2) := z3.symm
        have dy : fdp y.2.2.2 ≤ 40 := by have := hVW.1.2.1; rw [ev, fer_dp] at this; exact this
        have ly : fln y.2.2.2 ≤ 256 := by have := hVW.1.2.2.1; rw [ev, fer_ln] at this; exact this
        have sy : vsz vv = 1 + fsz y.2.2.2 := by rw [ev]; show 1 + fsz (fer y.2.2.2) = _; rw [fer_sz]
        have zy : fsz y.2.2.2 ≤ 200000 := by have := hVW.2.2; rw [ev, fer_sz] at this; exact this
        refine k_X1_reference_0 oo ?_
        refine ctop_ok (b := 0) (i := .inr r) c w hf ht (by rw [hst]; rfl) fun x' q1 _ => ?_
        have : x = x' := by
          rw [hst] at q1
          have q1 : o (1, wi, t, ks.length) = some x' := q1
          rw [x1] at q1; exact Option.some.inj q1
        subst this
        by_cases c18 : op < 18
        · rw [if_pos c18] at hne kk
          cases hp : (flo vv.2.2)[b]? with
          | none => rw [hp] at hne; exact absurd rfl hne
          | some pv =>
            rw [hp] at hne kk
            simp only at hne kk
            obtain ⟨e1, e2⟩ := mre_n hne
            rw [e2] at kk
            have kk : ∀ h' l' o', OUT wi W h h' o o' → OPR XX.G B h' A W q BA X tt snd lim SP wi MA l' o' (sK s (.inr (r.1, r.2 ++ [b]) :: ks)) → K (.returned none) h' := kk
            have hp : (flo (fer y.2.2.2))[b]? = some pv := by rw [ev] at hp; exact hp
            rw [flo_fer, List.getElem?_map] at hp
            obtain ⟨a, a1, a2⟩ := Option.map_eq_some_iff.mp hp
            refine k_X1_reference_5 oo (fun cc => absurd ((nI_leI (by omega) (by omega)).mp cc) (by omega)) (fun _ => ?_)
            refine k_X1_reference_12 oo ?_
            refine part_ok z6 (fat_llo a1) (by omega) ?_
            refine k_X1_reference_21 oo ?_
            obtain ⟨u1, H1⟩ := H.ret (r' := (r.1, r.2 ++ [b])) (b := a.1) ht hst x1 ⟨x3, x4⟩ (by
              unfold rad
              rw [show o (rsl' wi ((r.1, r.2 ++ [b]) : Rx).1) = some z from z1]
              show (lva z (r.2 ++ [b])).map (fun y => y.1) = _
              rw [lva_ap (w := z) z2]
              show (match (llo y.2.2.2)[b]? with
                | some w => lva w []
                | none => none).map _ = _
              rw [a1]; rfl)
            refine k_X1_reference_99 oo ?_
            exact kk _ l o u1 H1
        · rw [if_neg c18] at hne kk
          refine k_X1_reference_5 oo (fun _ => ?_) (fun cc => absurd ((nI_leI (by omega) (by omega)).mpr (by omega)) cc)
          by_cases e18 : op = 18
          · rw [if_pos e18] at hne kk
            refine k_X1_reference_27 oo (fun cc => absurd (by rw [e18]) cc) (fun _ => ?_)
            refine k_X1_reference_33 oo ?_
            refine size_ok z6 (by omega) ?_
            refine k_X1_reference_41 oo ?_
            rw [← sy]
            refine cpay_ok (k := fun s => mgo (sK s (.inl vv :: ks))) H (by omega) (by omega) (fun h1 s1 u1 H1 es1 av1 em => ?_) (fun em => by rw [em] at kk; exact kk)
            rw [em] at kk
            subst es1
            have kk : ∀ h' l' o', OUT wi W h h' o o' → OPR XX.G B h' A W q BA X tt snd lim SP wi MA l' o' (sK (sG s (gas s + vsz vv)) (.inl vv :: ks)) → K (.returned none) h' := kk
            have hg1 : gas s + vsz vv ≤ lim := H1.2.2.2.2.1
            have t1 := H1.1.1.1
            have r1' := H1.1.1.2.1
            obtain ⟨x', z', y', x1', x2', -, -, z1', z2', -, z4', -⟩ := H1.rf (s := sG s (gas s + vsz vv)) ht (b := 0) (r := r) (v := vv) (by show (stk s)[0]? = _; rw [hst]; rfl) hdr
            have e1 : x = x' := by
              have x1' : o (1, wi, t, (stk s).length - 1 - 0) = some x' := x1'
              rw [hst] at x1'
              have x1' : o (1, wi, t, ks.length) = some x' := x1'
              rw [x1] at x1'; exact Option.some.inj x1'
            subst e1
            have e1 : z = z' := by rw [z1] at z1'; exact Option.some.inj z1'
            subst e1
            have e1 : y = y' := by rw [z2] at z2'; exact Option.some.inj z2'
            subst e1
            obtain ⟨sl, hsl⟩ := H1.2.1.slot wi
            refine k_X1_reference_44 oo ?_
            refine vcopy_ok H1.2.1 z1 z2 hsl (by rw [av1]; omega) (by omega) fun h2 cp l2 f2 v2 tg2 a2 e2 e3 => ?_
            have fi2 : Fr (IP W) h1 h2 := f2.mono VQ.ip
            have c2 := H1.1.ip fi2
            have t2 := c2.1.1
            -- the copy lies aside
            have hps : ∀ a, rsl' wi a ≠ (5, wi, sl, 1) := fun a e => by
              obtain ⟨i, n⟩ := a
              cases i with
              | zero => exact absurd (congrArg (fun p : Sl => p.1) e) (by show (3 : Nat) ≠ 5; omega)
              | succ j => exact absurd (congrArg (fun p : Sl => p.1) e) (by show (2 : Nat) ≠ 5; omega)
            have rk : ∀ r, rad (uO o (5, wi, sl, 1) (some cp)) wi r = rad o wi r := rdk fun r => uO_n (hps r)
            have w2 : WkR h2 (uO o (5, wi, sl, 1) (some cp)) wi W MA (sG s (gas s + vsz vv)) := by
              obtain ⟨q1, q2, q3, q4⟩ := H1.2.2.1.vq f2 tg2
              exact ⟨q1, fun j hj => (q2 j hj).keep (Fr.refl h2) (P := fun _ _ => False) (fun _ _ _ _ _ z => z) (fun c k hc => uO_n (by rcases hc with e | e <;> (subst e; intro e; cases e))) (fun _ _ _ _ _ => rfl) (fun q hq a ha => by rw [rk]; exact ha), fun j hj k => by rw [uO_n (by intro e; cases e), uO_n (by intro e; cases e)]; exact q3 j hj k, q4.keep (Fr.refl h2) (P := fun _ _ => False) (fun _ _ _ _ _ z => z) (fun e _ => uO_n (by intro e; cases e))⟩
            have hf2 : h2.R 28 A = some (Fa W (s.1 - 1)) := by rw [f2.R (VQ.no (l := [28]) rfl _ _ rfl)]; exact H1.2.2.2.1
            have H2 : OPR XX.G B h2 A W q BA X tt snd lim SP wi MA l2 (uO o (5, wi, sl, 1) (some cp)) (sG s (gas s + vsz vv)) := ⟨c2, v2, w2, hf2, hg1, H1.2.2.2.2.2.vq f2⟩
            refine k_X1_reference_55 oo ?_
            refine cdropTop_ok H2 (i := .inr r) (k := ks) hst (fun v hv => by cases hv) (by omega) fun h3 l3 o3 u3 H3 a3 f3 o3e => ?_
            have hcp : o3 (5, wi, sl, 1) = some cp := by rw [o3e _ (by intro e; cases e), uO_s]
            have t3 := H3.1.1.1
            refine k_X1_reference_61 oo ?_
            have vm := H3.2.1.mov hcp (H3.free (t := t) ht)
            have hks : ks.length < 64 := by
              obtain ⟨-, m, es', -⟩ := w.F ht
              have := m.1.2.2.2.2
              rw [← es', hst] at this
              simp at this
              omega
            -- without the slot
            have o3d : ∀ p, p ≠ (5, wi, sl, 1) → p ≠ (1, wi, t, ks.length) → uO o3 (5, wi, sl, 1) none p = o p := fun p h1 h2 => by
              rw [uO_n h1, o3e p (by rw [show (sG s (gas s + vsz vv)).1 - 1 = t from (by show s.1 - 1 = t; omega)]; exact h2), uO_n h1]
            have w3 : WkR h3 (uO o3 (5, wi, sl, 1) none) wi W MA (sK (sG s (gas s + vsz vv)) ks) := by
              obtain ⟨q1, q2, q3, q4⟩ := H3.2.2.1
              exact ⟨q1, fun j hj => (q2 j hj).keep (Fr.refl h3) (P := fun _ _ => False) (fun _ _ _ _ _ z => z) (fun c k hc => uO_n (by rcases hc with e | e <;> (subst e; intro e; cases e))) (fun _ _ _ _ _ => rfl) (fun q hq a ha => by rw [rdk fun r => uO_n (hps r)]; exact ha), fun j hj k => by rw [uO_n (by intro e; cases e), uO_n (by intro e; cases e)]; exact q3 j hj k, q4.keep (Fr.refl h3) (P := fun _ _ => False) (fun _ _ _ _ _ z => z) (fun e _ => uO_n (by intro e; cases e))⟩
            have hf3 : h3.R 28 A = some (Fa W t) := by
              have := H3.2.2.2.1
              rw [show (sK (sG s (gas s + vsz vv)) ks).1 - 1 = t from (by show s.1 - 1 = t; omega)] at this
              exact this
            have ek : stk (sK (sG s (gas s + vsz vv)) ks) = ks := stk_K
            rw [ek] at vm
            refine cpush_ok (x := cp) (i := .inl vv) H3.1 w3 hf3 ht (by rw [ek]; exact hks) (vm.2.2.2 _ cp uO_s).1.1 (e2.trans z3) fun h4 f4 w4 => ?_
            rw [ek] at w4
            have em4 : mpu (sK (sG s (gas s + vsz vv)) ks) (.inl vv) = sK (sG s (gas s + vsz vv)) (.inl vv :: ks) := by unfold mpu; rw [stk_K, stkK]
            rw [em4] at w4
            obtain ⟨v4, tg4⟩ := vm.oth f4 PH.v
            have fi4 : Fr (IP W) h3 h4 := f4.1.mono (PH.ip t32)
            refine k_X1_reference_67 oo (k_X1_reference_99 oo (kk h4 l3 _ (u1.trans ⟨fi2.trans (u3.1.trans fi4), fun p hp => ?_⟩) ⟨H3.1.ip fi4, v4, w4, ?_, hg1, H3.2.2.2.2.2.ph f4.1⟩))
            · have n1 : p ≠ (1, wi, t, ks.length) := fun e => by
                subst e
                rcases hp with z | z
                · revert z; show (1 = 0 ∨ 3 < 1) → False; omega
                · exact z rfl
              by_cases n2 : p = (5, wi, sl, 1)
              · subst n2
                exact ⟨by rw [uO_n n1, uO_s, hsl], fun u hu => by rw [hsl] at hu; cases hu⟩
              refine ⟨by rw [uO_n n1, o3d p n2 n1], fun u hu => ?_⟩
              rw [tg4 p u (by simp) (by rw [uO_n n1, o3d p n2 n1]; exact hu), (u3.2 p hp).2 u (by rw [uO_n n2]; exact hu), tg2 p u (by simp) hu]
            · rw [f4.1.R PH.f]; rw [show (sK (sG s (gas s + vsz vv)) (.inl vv :: ks)).1 - 1 = t from (by show s.1 - 1 = t; omega)]; exact hf3
          · rw [if_neg e18] at hne kk
            refine k_X1_reference_27 oo (fun _ => ?_) (fun cc => absurd ((nI_eq (by omega) (by omega)).mp cc) e18)
            by_cases e19 : op = 19
            · rw [if_pos e19] at hne kk
              refine k_X1_reference_70 oo (fun cc => absurd (by rw [e19]) cc) (fun _ => ?_)
              cases ks with
              | nil => exact absurd rfl hne
              | cons j ks =>
                cases j with
                | inr r' => exact absurd rfl hne
                | inl wv =>
                  simp only at hne kk
                  obtain ⟨e1, e2⟩ := mre_n hne
                  rw [e2] at kk
                  have kk : ∀ h' l' o', OUT wi W h h' o o' → OPR XX.G B h' A W q BA X tt snd lim SP wi MA l' o' (wrf (sK s ks) r wv) → K (.returned none) h' := kk
                  rw [Bool.and_eq_true] at e1
                  have ek1 : wv.1 = vv.1 := by simpa using e1.1
                  refine k_X1_reference_76 oo ?_
                  refine cdropTop_ok H (i := .inr r) (k := .inl wv :: ks) hst (fun v hv => by cases hv) (by omega) fun h3 l3 o3 u3 H3 a3 f3 o3e => ?_
                  have t3 := H3.1.1.1
                  have r3 := H3.1.1.2.1
                  have hf3 : h3.R 28 A = some (Fa W t) := by
                    have := H3.2.2.2.1
                    rw [show (sK s (.inl wv :: ks)).1 - 1 = t from (by show s.1 - 1 = t; omega)] at this
                    exact this
                  refine k_X1_reference_86 oo ?_
                  refine cpop_ok H3.1 H3.2.2.1 hf3 ht (stk_K (k := .inl wv :: ks)) fun h4 xw f4 xw1 xw2 w4 => ?_
                  rw [stkK] at w4
                  have xw2 : lvE xw = wv := xw2
                  obtain ⟨v4, tg4⟩ := H3.2.1.oth f4 PH.v
                  have tq := v4.1.1
                  refine k_X1_reference_96 oo ?_
                  have hn1 : rsl' wi r.1 ≠ (1, wi, s.1 - 1, (Sum.inl wv :: ks : List It).length) := rsl_1
                  have z1' : o3 (rsl' wi r.1) = some z := by rw [o3e _ hn1]; exact z1
                  refine vrepl_ok v4 z1' z2 xw1 rsl_1 (by omega) fun h5 l5 f5 n5 v5 tg5 a5 => ?_
                  have z1w : uO o3 (1, wi, t, ks.length) none (rsl' wi r.1) = some z := by rw [uO_n rsl_1]; exact z1'
                  have rt5 : rtv (sK s ks) r.1 = some (lvE z) := by
                    obtain ⟨⟨i, n⟩, p⟩ := r
                    cases i with
                    | zero => exact z5
                    | succ j =>
                      show (match (uF s.2.1 (s.1 - 1) ((tpf s).1, (tpf s).2.1, (tpf s).2.2.1, ks) j).2.2.1 n with
                        | some (.inl v) => some v
                        | _ => none) = _
                      unfold uF
                      by_cases e : j = s.1 - 1
                      · rw [if_pos e]
                        have z5 : (match (s.2.1 j).2.2.1 n with
                          | some (.inl v) => some v
                          | _ => none) = some (lvE z) := z5
                        rw [e] at z5
                        exact z5
                      · rw [if_neg e]; exact z5
                  have w5 := w4.wr (y' := (y.1, y.2.1, xw.2.2)) z1w z2 rfl rt5 e1.2 f5 (fun p u hp hu => ?_)
                  · have ew : lvE (y.1, y.2.1, xw.2.2) = wv := by
                      rw [← xw2]
                      refine Prod.ext ?_ rfl
                      show y.2.1 = xw.2.1
                      have q1 : xw.2.1 = wv.1 := congrArg (fun p : VL => p.1) xw2
                      have q2 : y.2.1 = vv.1 := by rw [ev]
                      omega
                    rw [ew] at w5
                    have fi5 : Fr (IP W) h3 h5 := (f4.1.mono (PH.ip t32)).trans (f5.mono VQ.ip)
                    refine k_X1_reference_99 oo (kk h5 l5 _ (u3.trans ⟨fi5, fun p hp => ?_⟩) ⟨H3.1.ip fi5, v5, w5, ?_, ?_, (H3.2.2.2.2.2.ph f4.1).vq f5⟩)
                    · have n1 : p ≠ (1, wi, t, ks.length) := fun e => by
                        subst e
                        rcases hp with z | z
                        · revert z; show (1 = 0 ∨ 3 < 1) → False; omega
                        · exact z rfl
                      have n2 : p ≠ rsl' wi r.1 := fun e => by
                        subst e
                        obtain ⟨⟨i, n⟩, p⟩ := r
                        cases i with
                        | zero =>
                          rcases hp with z | z
                          · revert z; show (3 = 0 ∨ 3 < 3) → False; omega
                          · exact z rfl
                        | succ j =>
                          rcases hp with z | z
                          · revert z; show (2 = 0 ∨ 3 < 2) → False; omega
                          · exact z rfl
                      refine ⟨by rw [uO_n n2, uO_n n1], fun u hu => ?_⟩
                      rw [tg5 p u (by simpa using n1) hu, tg4 p u (by simp) hu]
                    · have e1' : (wrf (sK s ks) r wv).1 = s.1 := by
                        unfold wrf
                        rw [rt5]
                        show (rst (sK s ks) r.1 _).1 = _
                        unfold rst
                        split
                        · split <;> rfl
                        · rfl
                      rw [e1', show s.1 - 1 = t by omega, f5.R (VQ.no (l := [28]) rfl _ _ rfl), f4.1.R PH.f]
                      exact hf3
                    · have e1' : gas (wrf (sK s ks) r wv) = gas s := by
                        unfold wrf
                        rw [rt5]
                        show gas (rst (sK s ks) r.1 _) = _
                        unfold rst
                        split
                        · split <;> rfl
                        · rfl
                      rw [e1']; exact hg
                  · have hpn : p ≠ (1, wi, t, ks.length) := fun e => by rw [e, uO_s] at hu; cases hu
                    rw [uO_n hpn] at hu
                    exact tg5 p u (by simpa using hpn) hu
            · rw [if_neg e19] at hne kk
              refine k_X1_reference_70 oo (fun _ => ?_) (fun cc => absurd ((nI_eq (by omega) (by omega)).mp cc) e19)
              exact k_X1_reference_99 oo (kk h l o OUT.refl H)
end
