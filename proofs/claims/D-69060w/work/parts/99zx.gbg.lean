/-! all transactions at once: a call begins -/
theorem av_a0 {L B a s M : Nat} (h1 : L ≤ B + (a + s)) (h2 : B + (s + M) ≤ L) : M ≤ a := by omega
theorem oth_av0 {G : Gt} {B q wi W : Nat} {h : AH} {o : Lc} {l : List Nat} (t : OTH G B o wi) (v : VH G B h q l o) (w : IDW h o wi W) : 61500 ≤ av G h l := by
  obtain ⟨ps, t1, t2, t3⟩ := t
  have key := v.cnt ps (fun p x hp => t1 p x hp (by
    by_cases c : 1 ≤ p.1 ∧ p.1 ≤ 3 ∧ p.2.1 = wi
    · rw [w.2 p c.1 c.2.1 c.2.2] at hp; cases hp
    · omega))
  exact av_a0 key t3
theorem ENN.new {z : Cz} {g : Gg} {t : Nat} {MA MA' : Ma} {es' : List En} (h : ∀ e' ∈ es', e'.2.1 = vew (zst z) (xL g) (zf z) t e'.1) (mx : MAX 0 MA MA' (es'.map fun x => x.1) (sco (xL g) (xN g) (zf z) t)) (M0 : Ma) : ENN z g t [] M0 es' MA' := fun i e' he => by
  right
  have m := mx.2.2 i e'.1 (Nat.zero_le _) (by rw [List.getElem?_map, he]; rfl)
  have gn : gss (xL g) (zf z) t e'.1 = none := by
    cases hg : gss (xL g) (zf z) t e'.1 with
    | none => rfl
    | some k => unfold sco at m; rw [hg] at m; cases m
  rw [sco_n gn] at m
  exact ⟨gn, h e' (List.mem_of_getElem? he), Option.some.inj m⟩
theorem mbg_s0 {W : Wd} {x : TxC} {env : Pc → Cn} {s : Ms} (h : mbg W x env = .ok s) : ens s = [((1, x.1, 0), env (1, x.1, 0), ((env (1, x.1, 0)).1, (env (1, x.1, 0)).2.1 - lN x.2.2.1, (env (1, x.1, 0)).2.2.1 + 1, (env (1, x.1, 0)).2.2.2), true), ((2, lN x.2.2.2.1, 0), env (2, lN x.2.2.2.1, 0), env (2, lN x.2.2.2.1, 0), false)] := by
  unfold mbg at h
  simp only at h
  split at h
  · cases h
  · split at h
    · cases h
    · split at h
      · cases h
      · split at h
        · cases h
        · split at h
          · cases h
          · split at h
            · cases h
            · split at h
              · cases h
              · split at h
                · cases h
                · split at h
                  · cases h
                  · rw [← Except.ok.inj h]; rfl
section
variable {c : Cy} {z : Cz} {G : Gt} {B d : Nat} {g g' : Gg} {h h1 h' : AH} {l l1 l' : List Nat} {o o1 o' : Lc} {j : Nat} {K : Outcome → AH → Prop} {fx : Option Nat} {D : Nat → Nat}
theorem GRL.bgn (r : GRL c z G B g h l o) (iv : IVG z g) (lz : LSZ g) (zc : ZCA c z) (cw : CWD c z D G B) (hE : ∀ t, zf z ≤ t → t < zl z → EVW c.2.2.1 (vew (zst z) (xL g) (zf z) t) ∧ EVL (-26 * (t : Int)) (vew (zst z) (xL g) (zf z) t)) (hj : j < zn z) (hk : wK g j = 1) (hb : wB g j = false) (rW : h.R 26 (yA c.1) = some (yW c.1 j)) (hd : 76 ≤ d) (kk : ∀ h' g' l' o', GST z g j g' → GRL c z G B g' h' l' o' → Fr (PG c.1 j (wT g j)) h h' → K (.returned none) h') : MW G d e_X1_go [.ref (yA c.1)] h K := by
  obtain ⟨⟨hW, hD, hcl⟩, ⟨hst, hsz⟩, ⟨h8, h32⟩, hG⟩ := cw
  obtain ⟨zF, zP, zL, zpb⟩ := zc
  obtain ⟨⟨⟨⟨a1, a2, a3, a4, a5, a6⟩, -⟩, ⟨b1, b2, b3⟩, ⟨hy, cny, dgr⟩, txs, txi⟩, ly, ⟨s1', sR, sT, sB⟩, tx, wk, et, wd, v, sup⟩ := id r
  obtain ⟨i1, i2, i3, -⟩ := iv.2.1 j hj
  obtain ⟨i5, i6⟩ := i2 (by omega)
  obtain ⟨z1, z2, z3⟩ := zpb _ i5 i6
  have t32 : wT g j < 32 := by omega
  obtain ⟨⟨k1, k2, k3, k4, k5⟩, k6, -⟩ := wk j hj
  have iw := k6 (fun q => by rw [hb] at q; cases q.2)
  have cx := r.ctx iv hj h32 (fun t h1 h2 => (zpb t h1 h2).2.1) hk rW
  obtain ⟨hE, hL⟩ := hE _ i5 i6
  have ot := r.ot (j := j) iv h8 lz hsz (fun t s hs => by
    obtain ⟨-, q1, q2⟩ := (zP t s).mp hs
    exact q1.sz q2) hG
  have eW : esW g j = [] := by unfold esW; rw [hb]; rfl
  obtain ⟨x1, x2, x3, x4⟩ := txi _ i5 i6
  rw [z1] at x4
  refine go_ok (bg := false) (SP := yP c.1) (W := yW c.1 j) a1 rW k1.1.1 (by rw [k5 hk, hb]) (by omega) (fun q => by cases q) (fun _ K1 hk1 hk2 => ?_)
  have q0 : Fq (fun f a => f = 2436 ∧ a = yW c.1 j) h (h.sI 2436 (yW c.1 j) (nI 1)) := Fq.sI (Fq.refl h) ⟨rfl, rfl⟩
  have bg0 : (h.sI 2436 (yW c.1 j) (nI 1)).I 2436 (yW c.1 j) = nI 1 := by simp [n_sI, z_sI, tag_sI, I_sI, J_sI, R_sI, EI_sI, EJ_sI, ER_sI, n_sJ, z_sJ, tag_sJ, I_sJ, J_sJ, R_sJ, EI_sJ, EJ_sJ, ER_sJ, n_sR, z_sR, tag_sR, I_sR, J_sR, R_sR, EI_sR, EJ_sR, ER_sR, n_sEI, z_sEI, tag_sEI, I_sEI, J_sEI, R_sEI, EI_sEI, EJ_sEI, ER_sEI, n_sEJ, z_sEJ, tag_sEJ, I_sEJ, J_sEJ, R_sEJ, EI_sEJ, EJ_sEJ, ER_sEJ, n_sER, z_sER, tag_sER, I_sER, J_sER, R_sER, EI_sER, EJ_sER, ER_sER, n_nw, z_nw, tag_nw, I_nw, J_nw, R_nw, EI_nw, EJ_nw, ER_nw]
  generalize h.sI 2436 (yW c.1 j) (nI 1) = h0 at q0 bg0 ⊢
  have n0 : ∀ l : List Nat, l.all (fun f => !(f == 2436)) = true → ∀ f a, l.contains f = true → ¬ (f = 2436 ∧ a = yW c.1 j) := fun l hl f a hf q => by
    rw [List.all_eq_true] at hl
    have := hl f (List.contains_iff_mem.mp hf)
    rw [q.1] at this; exact absurd this (by decide)
  obtain ⟨v0, tg0⟩ := v.oth q0 (fun f a y q => by rw [q.1] at y; exact VQ.no (l := [2436]) rfl _ _ rfl y)
  have iw0 : IDW h0 o j (yW c.1 j) := iw.far q0.1 (n0 _ rfl) (fun f a hf _ _ => n0 (fmF ++ enF ++ [2438, 2439, 2441]) rfl f a hf) (fun _ _ _ _ => rfl)
  have mid0 : ∀ h' o', OUB j (yW c.1 j) h0 h' o o' → Fr (PGM c.1 j (wT g j)) h h' ∧ ∀ p : Sl, ¬ (1 ≤ p.1 ∧ p.1 ≤ 3 ∧ p.2.1 = j) → o' p = o p ∧ ∀ x, o p = some x → h'.R 3718 x.1 = h.R 3718 x.1 := fun h' o' u => by
    refine ⟨(q0.1.mono fun f a q => Or.inr (Or.inr (Or.inl q))).trans (u.1.mono fun f a q => Or.inl q), fun p hp => ?_⟩
    obtain ⟨y1, y2⟩ := u.2 p (by omega)
    exact ⟨y1, fun x hx => by rw [y2 x hx]; exact tg0 p x (by simp) hx⟩
  have wr0 : WRD h0 o (yA c.1) (yW c.1 j) (yB c.1) (wT g j) c.2.1 (zf z) (zst z) (xL g) (xN g) := (r.wrd hj i5 hst).fr q0.1 (n0 _ rfl) (fun f a hf _ => n0 etF rfl f a hf) (fun _ _ => rfl)
  have hy0 : WHY h0 (yA c.1) (yC c.1) c.2.1 c.2.2.1 := ⟨by rw [q0.1.R (n0 [0] rfl _ _ rfl)]; exact hy.1, fun n m hm => ⟨(hy.2 n m hm).1.fr q0.1 (n0 _ rfl), (hy.2 n m hm).2⟩⟩
  refine begin_ok (x := c.2.2.2.1 (wT g j)) (Wd' := c.2.2.1) (CM := yC c.1) (MA := c.2.1) (st := zst z) (Lf := xL g) (RN := xN g) (fs := zf z) (cx.fr q0.1 (n0 _ rfl)) v0 iw0 rfl (wd.fr q0.1 (fun a => n0 [27] rfl _ a rfl) (fun a => n0 [2306] rfl _ a rfl)) (x1.fr q0.1 (n0 _ rfl)) z3 (by rw [q0.1.I (n0 [2688] rfl _ _ rfl)]; exact x4) hy0 (cny.fr q0.1 (n0 _ rfl)) hW hE wr0 (by have := oth_av0 ot v0 iw0; omega) (by omega) (fun k p hp hg h' l' o' MA' s' fx u H2 cl e1 e2 => ?_) ⟨fun e hm h' l' o' MA' s' fx u H2 es cl mx e1 e2 => ?_, fun s0 hm h' l' o' MA' u H2 mx hat' eb eq => ?_⟩
  · obtain ⟨q1, q2⟩ := mid0 h' o' u
    refine hk2 h' ⟨q1.tag a6, q1.tag a1, fun _ K2 hK2 => ?_, fun ne => absurd e1 ne⟩
    obtain ⟨kb, -⟩ : k < wT g j ∧ True := by
      unfold gss at hg
      cases hb' : bfr (xL g) p (zf z) (wT g j) with
      | none => rw [hb'] at hg; cases hg
      | some k' =>
        obtain ⟨x1, x2, -⟩ := bfr_b hb'
        rw [hb'] at hg
        simp only at hg
        split at hg
        · split at hg
          · rw [← Option.some.inj hg]; exact ⟨x1, trivial⟩
          · cases hg
        · cases hg
    rw [e2, n32_l (by omega)]
    exact r.hld iv hj h8 h32 hk ⟨q1, q2, H2, cl⟩ hg (by omega) (fun h3 g3 l3 o3 x y w => hK2 h3 (kk h3 g3 l3 o3 x y w))
  · obtain ⟨q1, q2⟩ := mid0 h' o' u
    refine hk2 h' ⟨q1.tag a6, q1.tag a1, fun q => ?_, fun _ K2 hK2 => ?_⟩
    · rw [e1] at q
      exact absurd ((nI_eq (by omega) (by omega)).mp q) (by decide)
    rw [e1, e2]
    have ft : RTY c.2.2.1 (c.2.2.2.1 (wT g j)) (-26 * ((wT g j : Int) + 1)) (3, e.1, e.2, 0, [], 0) := RTY.beg hE hm
    obtain ⟨x0', es', he, h0'⟩ := ft.2.1
    have he : e.2 = x0' :: es' := he
    have rr : ((3, e.1, ens s', gas s', [], 0) : TxR) = (3, e.1, e.2, 0, [], 0) := by rw [es.2.1, es.2.2]
    refine r.fin (rs := []) (cc := e.1) (pl := 0) (e0 := x0') (es := es') iv hj h8 h32 hk lz z2 ⟨q1, q2, H2, cl⟩ mx.1.1 (by rw [es.2.1]; exact he) (by rw [h0']) (by omega) (fun q => by cases q) (fun q => absurd rfl q) (fun q => by cases q) (fun _ => rfl) (fun q => by cases q) (by rw [rr]; exact (zF _ _).mpr ⟨FIN.beg hm, ft, RTZ.beg⟩) ?_ (by rw [zL, z1]) (by omega) (fun h3 g3 l3 o3 x y w => hK2 h3 (kk h3 g3 l3 o3 x y w))
    rw [eW, es.2.1]
    refine ENN.new (fun e' he' => ?_) (by unfold plc at mx; rw [es.2.1] at mx; exact mx) _
    rcases mbg_er hm with q | q
    · rw [q, List.mem_singleton] at he'
      rw [he']
    · rw [q] at he'
      simp only [List.mem_cons, List.mem_nil_iff, or_false] at he'
      rcases he' with q | q <;> rw [q]
  · obtain ⟨q1, q2⟩ := mid0 h' o' u
    obtain ⟨c2, v2, w2, -, wd2⟩ := H2
    have pi := PIq.beg hW hE z3 hm
    have es0 := mbg_s0 hm
    have eo : ∀ i, i ≠ j → (uWk g j ((1, wT g j, wN g j, wL g j, true), MA', s0)).2.1 i = g.2.1 i := fun i hi => if_neg hi
    have ej : (uWk g j ((1, wT g j, wN g j, wL g j, true), MA', s0)).2.1 j = ((1, wT g j, wN g j, wL g j, true), MA', s0) := if_pos rfl
    have g1 : (uWk g j ((1, wT g j, wN g j, wL g j, true), MA', s0)).1 = g.1 := rfl
    have g2 : qR (uWk g j ((1, wT g j, wN g j, wL g j, true), MA', s0)) = qR g := rfl
    have g3 : qL (uWk g j ((1, wT g j, wN g j, wL g j, true), MA', s0)) = qL g := rfl
    generalize uWk g j ((1, wT g j, wN g j, wL g j, true), MA', s0) = g' at eo ej g1 g2 g3
    have ek : wK g' j = 1 := by unfold wK; rw [ej]
    have et' : wT g' j = wT g j := by rw [wT, ej]
    have eB : wB g' j = true := by rw [wB, ej]
    have eM : wM g' j = MA' := by rw [wM, ej]
    have eS : wS g' j = s0 := by rw [wS, ej]
    have bu := bsy_u hj eo
    rw [if_neg (by omega), ek, if_neg (by decide)] at bu
    have u0 : Fr (PG0 c.1 j) h0 h' := u.1.mono fun f a q => by
      rcases q with (q | ⟨q, q2⟩ | q) | ⟨q | q, q2⟩
      · exact Or.inl q
      · refine Or.inr (Or.inl ⟨?_, q2⟩)
        have : ∀ f ∈ ipM, pgW.contains f = true := by decide
        exact this f (List.contains_iff_mem.mp q)
      · refine Or.inr (Or.inr ?_)
        rw [List.contains_iff_mem] at q ⊢
        exact List.mem_append_left _ q
      · rw [q, q2]; exact Or.inr (Or.inl ⟨rfl, by omega, by omega⟩)
      · rw [q, q2]; exact Or.inr (Or.inl ⟨rfl, by omega, by omega⟩)
    have q00 : Fr (PG0 c.1 j) h h' := (q0.1.mono fun f a q => by rw [q.1, q.2]; exact Or.inr (Or.inl ⟨rfl, by omega, by omega⟩)).trans u0
    have jI := IPB.no (W := yW c.1 j) (l := [10, 11, 12, 2702, 2432, 2433, 2436]) rfl rfl
    have jM : ∀ f a, [10, 11, 12, 2702, 2432, 2433].contains f = true → ¬ PGM c.1 j (wT g j) f a := PGM.no rfl rfl rfl
    have sup2 : SUP (zn z) o' := fun p x hp => by
      by_cases c1 : 1 ≤ p.1 ∧ p.1 ≤ 3 ∧ p.2.1 = j
      · exact Or.inr (Or.inl ⟨c1.1, c1.2.1, by rw [c1.2.2]; exact hj⟩)
      · exact sup p x (by rw [← (q2 p c1).1]; exact hp)
    have en : ENN z g (wT g j) (esW g j) (wM g j) (ens s0) MA' := by
      rw [eW]
      refine ENN.new (fun e' he' => ?_) mx _
      rw [es0] at he'
      simp only [List.mem_cons, List.mem_nil_iff, or_false] at he'
      rcases he' with q | q <;> rw [q]
    refine hk1 h' (kk h' g' l' o' ⟨eo, Or.inr (Or.inr (Or.inr (Or.inl ⟨hk, g1, ⟨g2, g3⟩, ⟨ek, et', eB⟩, by rw [eS]; exact (zP _ _).mpr ⟨RUN.beg hm, pi, z2⟩, by rw [eS, eM]; exact en, fun q => by rw [hb] at q; cases q⟩)))⟩ (r.asm0 q00 v2 sup2 q2 hj (fun k _ => ⟨by rw [g1], by unfold xR; rw [g1], by unfold xH; rw [g1], fun z => by unfold xS at z ⊢; rw [← g1]; exact z⟩) eo (fun k hk' => ?_) (by rw [g2, q1.I (jM _ _ rfl)]; exact sR) (by rw [g3, q1.I (jM _ _ rfl)]; exact sT) (by rw [q1.I (jM _ _ rfl), sB]; exact congrArg nI (by omega)) ⟨⟨w2.1.1, by rw [ek, q1.I (jM _ _ rfl), ← hk]; exact k2, fun _ => by rw [et', q1.I (jM _ _ rfl)]; exact k3 (by omega), fun q => by omega, fun _ => by rw [eB, u.1.I (jI _ _ rfl), bg0]; rfl⟩, fun q => absurd ⟨ek, eB⟩ q, fun _ _ => ?_⟩ wd2) (q00.mono PG0.g))
    · have : xS g' k = xS g k := by unfold xS; rw [g1]
      rw [this, q1.I (jM _ _ rfl)]
      exact s1' k hk'
    · rw [eM, eS]
      exact ⟨w2, mx.1, hat', _, by rw [es0]; rfl, eb, eq⟩
end
