/-! a publication: publishing, whole -/
/-- what a publication owes -/
def PBK (K : Outcome → AH → Prop) (fx : Option Nat) (G : Gt) (B A W q BA X tt : Nat) (snd : Int64) (lim SP wi : Nat) (F : Nat → Fm) (ak DP M : Nat) (sc : Pc → Option (Int32 × Int32)) (h0 : AH) (o0 : Lc) (MA0 : Ma) (n0 : Nat) (rd : Except (Nat × Nat) Md) (dw : Nat → Nat → Nat) (r : TxR) : Prop := ∀ h' l' o' MA', OUL wi W DP X h0 h' o0 o' → OPQ 0 fx G B h' A W q BA X tt snd lim SP wi MA' l' o' (0, F, r.2.2.1, ak, r.2.2.2.1) → MAX n0 MA0 MA' (r.2.2.1.map fun x => x.1) sc → (h'.I 24 A = nI r.1 ∧ h'.J 25 A = (if r.1 = 0 then -1 else r.2.1)) → (r.1 = 4 → h'.I 2709 X = nI r.2.2.2.2.2) → (∃ dp, DPR h' M DP dp ∧ (r.1 = 0 → ∀ m, rd = .ok m → dag m dp (mdw m dw))) → K (.threw SP) h'
theorem PBK.no {K : Outcome → AH → Prop} {fx : Option Nat} {G : Gt} {B A W q BA X tt : Nat} {snd : Int64} {lim SP wi : Nat} {F : Nat → Fm} {ak DP M : Nat} {sc : Pc → Option (Int32 × Int32)} {h0 : AH} {o0 : Lc} {MA0 : Ma} {n0 : Nat} {rd : Except (Nat × Nat) Md} {dw : Nat → Nat → Nat} {r : TxR} {oc : Nat} {cc : Int64} {es : List En} {g : Nat} {rs : List VL} {pl : Nat} (k : PBK K fx G B A W q BA X tt snd lim SP wi F ak DP M sc h0 o0 MA0 n0 rd dw r) (er : r = (oc, cc, es, g, rs, pl)) (hn : oc ≠ 0) : ∀ h' l' o' MA', OUL wi W DP X h0 h' o0 o' → OPQ 0 fx G B h' A W q BA X tt snd lim SP wi MA' l' o' (0, F, es, ak, g) → MAX n0 MA0 MA' (es.map fun x => x.1) sc → h'.I 24 A = nI oc → h'.J 25 A = cc → (oc = 4 → h'.I 2709 X = nI pl) → (∃ dp, DPR h' M DP dp) → K (.threw SP) h' := by
  subst er
  intro h' l' o' MA' a b c e1 e2 e3 ⟨dp, e4⟩
  exact k h' l' o' MA' a b c ⟨e1, by rw [e2]; exact (if_neg hn).symm⟩ e3 ⟨dp, e4, fun z => absurd z hn⟩
section
variable {G : Gt} {B d : Nat} {h0 : AH} {l0 : List Nat} {o0 : Lc} {MA0 : Ma} {es0 : List En} {dp0 : Nat → Nat} {wi W A q BA X tt lim SP DP M CM C CW ak g0 : Nat} {F : Nat → Fm} {snd : Int64} {K : Outcome → AH → Prop} {fs : Nat} {fx : Option Nat} {st : Lw} {Lf : Nat → Lw} {RN : Nat → Int32} {Wd' : Wd} {cm : Md} {DA : Nat → Nat} {dw : Nat → Nat → Nat} {ms : List Nat} {bs : List Pc}
theorem publishing_ok {n : Nat} {r : Except (Nat × Nat) Md} (H : OPQ 0 fx G B h0 A W q BA X tt snd lim SP wi MA0 l0 o0 (0, F, es0, ak, g0)) (wd : WRD h0 o0 A W BA tt MA0 fs st Lf RN) (hE : EVW Wd' (vew st Lf fs tt)) (hg : ∀ p, gss Lf fs tt p = none) (hak : ak ≤ 24) (hms : ∀ n m', Wd' n = some m' → n ≠ 0 → n ∈ ms) (hm8 : bs.length + ms.length ≤ 25) (tp : TXP h0 X M n r) (dr : DPR h0 M DP dp0) (hm : ∀ m, r = .ok m → LKS h0 A CM M DP C CW MA0 Wd' cm m DA dw ∧ GDm m ∧ smB m ∧ (2, lN m.1, 0) ∈ bs ∧ (m.1 ≠ 0 → (vew st Lf fs tt (2, lN m.1, 0)).1 = false → MA0.1 m.1 = M)) (hb4 : (4, 0, 0) ∈ bs) (hb5 : (5, 0, 0) ∈ bs) (li : LKI (vew st Lf fs tt) ms bs es0) (hd : 56 ≤ d)
    (kk : PBK K fx G B A W q BA X tt snd lim SP wi F ak DP M (sco Lf RN fs tt) h0 o0 MA0 es0.length r dw (mpb Wd' cm dw (vew st Lf fs tt) lim n r es0)) : MW G d e_X1_publishing [.ref A, .ref X] h0 K := by
  refine st_X1_publishing fun XX oo hG hD _ => ?_
  subst hG; subst hD
  obtain ⟨⟨t0, rq, rW, rB, rS⟩, ⟨tB, wt, ht32, eX⟩, tX, xl, xl2, xs⟩ := id H.1
  have tW := H.2.2.1.1.1.1.1
  obtain ⟨⟨p1, p2, p3, p4⟩, -⟩ := id tp
  have eg : nI 10 + (nI n + nI 15) / nI 16 = nI (pgas n) := by unfold pgas; rw [nI_add, nI_div (by omega) (by omega) (by omega), nI_add]
  have gb : pgas n < 10000 := by unfold pgas; omega
  have gwr : ∀ (hh : AH) (ll : List Nat) (g g' : Nat), OPQ 0 fx XX.G B hh A W q BA X tt snd lim SP wi MA0 ll o0 (0, F, es0, ak, g) → g' ≤ lim → OUT wi W hh (hh.sI 2439 W (nI g')) o0 o0 ∧ OPQ 0 fx XX.G B (hh.sI 2439 W (nI g')) A W q BA X tt snd lim SP wi MA0 ll o0 (0, F, es0, ak, g') := fun hh ll g g' H' hg' => H'.gs (g := g') (Fq.sI (Fq.refl hh) ⟨rfl, rfl⟩) (by simp [n_sI, z_sI, tag_sI, I_sI, J_sI, R_sI, EI_sI, EJ_sI, ER_sI, n_sJ, z_sJ, tag_sJ, I_sJ, J_sJ, R_sJ, EI_sJ, EJ_sJ, ER_sJ, n_sR, z_sR, tag_sR, I_sR, J_sR, R_sR, EI_sR, EJ_sR, ER_sR, n_sEI, z_sEI, tag_sEI, I_sEI, J_sEI, R_sEI, EI_sEI, EJ_sEI, ER_sEI, n_sEJ, z_sEJ, tag_sEJ, I_sEJ, J_sEJ, R_sEJ, EI_sEJ, EJ_sEJ, ER_sEJ, n_sER, z_sER, tag_sER, I_sER, J_sER, R_sER, EI_sER, EJ_sER, ER_sER, n_nw, z_nw, tag_nw, I_nw, J_nw, R_nw, EI_nw, EJ_nw, ER_nw]) hg'
  obtain ⟨u1, H1⟩ := gwr h0 l0 g0 lim H (Nat.le_refl _)
  have ln := li.len
  obtain ⟨r0, em⟩ : ∃ r0, mpb Wd' cm dw (vew st Lf fs tt) lim n r es0 = r0 := ⟨_, rfl⟩
  rw [em] at kk
  unfold mpb at em
  by_cases cg : lim < pgas n
  · refine k_X1_publishing_0 oo (fun _ => ?_) (fun c => absurd (by rw [eg]; exact (nI_ltI (by omega) (by omega)).mpr cg) c)
    refine k_X1_publishing_41 oo ?_
    refine k_X1_publishing_42 oo ?_
    refine cneed2_ok (b := false) (w := 5) H1.1 (by omega) (by omega) (fun z => by cases z) (fun _ => H1.stop fun h' l' o' u2 H2 e1 e2 => ?_)
    rw [if_pos cg] at em
    exact kk.no em.symm (by decide) h' l' o' MA0 (u1.trans u2).ul H2 (MAX.refl (by rw [List.length_map]; exact Nat.le_refl _)) e1 e2 (fun z => absurd z (by decide)) ⟨dp0, dr.oub (u1.trans u2).oub⟩
  refine k_X1_publishing_0 oo (fun c => absurd ((nI_ltI (by omega) (by omega)).mp (by rw [eg] at c; exact c)) cg) (fun _ => ?_)
  rw [eg]
  generalize h0.sI 2439 W (nI lim) = h1 at u1 H1
  have t01 := H1.1.1.1
  refine k_X1_publishing_37 oo ?_
  refine k_X1_publishing_42 oo ?_
  refine cneed2_ok (b := true) (w := 5) H1.1 (by omega) (by omega) (fun _ => ?_) (fun z => by cases z)
  obtain ⟨u2, H2⟩ := gwr h1 l0 lim (pgas n) H1 (by omega)
  have rW1 := H1.1.1.2.2.1
  have tW1 := H1.2.2.1.1.1.1.1
  refine k_X1_publishing_46 oo ?_
  generalize h1.sI 2439 W (nI (pgas n)) = h2 at u2 H2
  have u02 := u1.trans u2
  refine cask_p (p := (5, 0, 0)) H2 (wd.oub u02.oub) ⟨by show 5 < 16; omega, by show 0 < _; omega⟩ (by omega) hak ((hE.1 _).2.1 (by show (5 : Nat) ≠ 3; decide)) hg (by omega) fun e5 x5 h3 l3 o3 MA3 u3 H3 mx3 hx5 hp5 => ?_
  have u03 := u02.trans u3
  have li3 := li.qs (Or.inl hb5)
  have le3 : es0.length ≤ (qsk (vew st Lf fs tt) es0 (5, 0, 0)).length := qsk_p.1
  rw [if_neg cg] at em
  generalize hes1 : qsk (vew st Lf fs tt) es0 (5, 0, 0) = es1 at H3 mx3 hx5 li3 le3 em
  have c5 : x5.2.2.1 = vew st Lf fs tt (5, 0, 0) := by
    have := (li3.2 x5 (List.mem_of_getElem? hx5)).1
    rw [this, hp5]
  obtain ⟨⟨-, ⟨a1, a2, a3⟩, -⟩, ⟨tE5, -⟩, e5b⟩ := H3.en (s := (0, F, es1, ak, pgas n)) hx5
  have t03 := H3.1.1.1
  have tX3 := H3.1.2.2.1
  have ln3 := li3.len
  by_cases c8 : (8 : Int64) ≤ (vew st Lf fs tt (5, 0, 0)).2.1
  · refine k_X1_publishing_62 (r2 := a2) oo (fun _ => ?_) (fun c' => absurd (by rw [c5]; exact c8) c')
    refine k_X1_publishing_79 oo ?_
    refine k_X1_publishing_80 oo ?_
    rw [if_pos c8] at em
    exact cneed2_ok (b := false) (w := 4) H3.1 (by omega) (by omega) (fun z => by cases z) (fun _ => H3.stop fun h' l' o' u4 H4 e1 e2 => kk.no em.symm (by decide) h' l' o' MA3 (u03.trans u4).ul H4 mx3 e1 e2 (fun z => absurd z (by decide)) ⟨dp0, dr.oub (u03.trans u4).oub⟩)
  refine k_X1_publishing_62 (r2 := a2) oo (fun c' => absurd (by rw [c5] at c'; exact c') c8) (fun _ => ?_)
  refine k_X1_publishing_75 oo ?_
  refine k_X1_publishing_80 oo ?_
  refine cneed2_ok (b := true) (w := 4) H3.1 (by omega) (by omega) (fun _ => ?_) (fun z => by cases z)
  rw [if_neg c8] at em
  have tp3 : TXP h3 X M n r := tp.fr u03.1 (IP.no rfl)
  have dr3 := dr.oub u03.oub
  obtain ⟨⟨r1, r2, -, -⟩, r5⟩ := id tp3
  cases r with
  | error e =>
    obtain ⟨⟨f1, f2⟩, f3, f4⟩ := r5
    have em : (4, (nI e.1).toInt64, es1, pgas n, [], e.2) = r0 := em
    refine k_X1_publishing_84 (r2 := f3) oo (fun c => absurd ((nI_eq (b := 0) (by omega) (by omega)).mp c) (by omega)) (fun _ => ?_)
    refine k_X1_publishing_91 (r2 := f3) (r4 := f4) oo ?_
    exact flt_ok (DP := DP) H3 (by omega) fun h' u4 H4 d4 e4 => kk.no em.symm (by decide) h' l3 o3 MA3 (u03.ul.trans u4) H4 mx3 e4.2.1 e4.2.2 (fun _ => e4.1) ⟨dp0, d4 _ _ dr3⟩
  | ok m =>
    obtain ⟨ls, gd, sb, hb2, hMA⟩ := hm m rfl
    have ls3 := (ls.ul (u03.ul (DP := DP) (X := X))).ma mx3.1.1
    obtain ⟨⟨-, ⟨-, rT⟩, sT, -, -, mx⟩, lc3, rC3, sc3, tw3⟩ := id ls3
    have tT := sT.1.1
    have nT := mx.1.1
    have n16 := mx.2.1.1
    refine k_X1_publishing_84 (r2 := r5) oo (fun _ => ?_) (fun c => absurd rfl c)
    have em : (if m.1 = 0 then _ else _) = r0 := em
    by_cases c0 : m.1 = 0
    · refine k_X1_publishing_103 (r8 := nT) oo (fun _ => ?_) (fun c => absurd (by rw [c0]; rfl) c)
      refine k_X1_publishing_133 oo ?_
      rw [if_pos c0] at em
      exact flt_ok (DP := DP) (b := 4) (w := 21) H3 (by omega) fun h' u4 H4 d4 e4 => kk.no em.symm (by decide) h' l3 o3 MA3 (u03.ul.trans u4) H4 mx3 e4.2.1 e4.2.2 (fun _ => e4.1) ⟨dp0, d4 _ _ dr3⟩
    refine k_X1_publishing_103 (r8 := nT) oo (fun c => absurd ((nI_eq (b := 0) (by omega) (by omega)).mp c) c0) (fun _ => ?_)
    rw [if_neg c0] at em
    refine k_X1_publishing_120 (r2 := nT) oo ?_
    refine cmod_p H3 ((wd.oub u03.oub).ma mx3.1.1) (by omega) (by omega) (by omega) hak li3.es ((hE.1 _).2.1 (by show (2 : Nat) ≠ 3; decide)) hg (by omega) fun h4 l4 o4 MA4 u4 H4 m4 mx4 _ => ?_
    have u04 := u03.trans u4
    have mxa : MAX es0.length MA0 MA4 ((qsk (vew st Lf fs tt) es1 (2, lN m.1, 0)).map fun x => x.1) (sco Lf RN fs tt) := mx3.tr3 mx4 qsk_pre le3
    have li4 := li3.qs (Or.inl hb2)
    have hx5' := preg (qsk_pre (env := vew st Lf fs tt) (p := (2, lN m.1, 0))) hx5
    have le4 : es0.length ≤ (qsk (vew st Lf fs tt) es1 (2, lN m.1, 0)).length := Nat.le_trans le3 qsk_p.1
    have hy2 : ∃ y2 ∈ qsk (vew st Lf fs tt) es1 (2, lN m.1, 0), y2.1 = (2, lN m.1, 0) := by
      unfold qsk
      cases hf : es1.findIdx? (fun e => e.1 == (2, lN m.1, 0)) with
      | some i =>
        rw [List.findIdx?_eq_some_iff_getElem] at hf
        obtain ⟨i1, i2, -⟩ := hf
        exact ⟨es1[i], List.getElem_mem i1, by simpa using i2⟩
      | none => exact ⟨_, List.mem_append_right _ (List.mem_singleton.mpr rfl), rfl⟩
    generalize hes2 : qsk (vew st Lf fs tt) es1 (2, lN m.1, 0) = es2 at H4 mx4 mxa li4 hx5' le4 hy2 em
    have t04 := H4.1.1.1
    have tX4 := H4.1.2.2.1
    have dr4 := dr.oub u04.oub
    by_cases ct : (vew st Lf fs tt (2, lN m.1, 0)).1 = true
    · rw [if_pos ct] at em
      rw [if_pos ct]
      refine k_X1_publishing_130 (s0 := some (MA3.1 m.1)) oo (fun c => nomatch c) (fun a ca => ?_)
      refine k_X1_publishing_133 oo ?_
      exact flt_ok (DP := DP) (b := 4) (w := 21) H4 (by omega) fun h' u5 H5 d5 e5 => kk.no em.symm (by decide) h' l4 o4 MA4 (u04.ul.trans u5) H5 mxa e5.2.1 e5.2.2 (fun _ => e5.1) ⟨dp0, d5 _ _ dr4⟩
    rw [if_neg ct] at em
    rw [if_neg ct]
    refine k_X1_publishing_130 (s0 := none) oo (fun _ => ?_) (fun a ca => nomatch ca)
    have ls4 := (ls.ul (u04.ul (DP := DP) (X := X))).ma mxa.1.1
    have rM4 : h4.R 2698 X = some M := by rw [u04.1.R (IP.no (l := [2698]) rfl _ _ rfl)]; exact p1
    refine k_X1_publishing_140 (r2 := rM4) oo ?_
    refine link_ok (dp0 := dp0) (ms := ms) (bs := bs) (es0 := es2) ls4 ((wd.oub u04.oub).ma mxa.1.1) hE hg hak hms hm8 gd sb H4 dr4 li4 (by omega) (fun e h' l' o' MA' ve pb sp dq => ?_) (fun ve h5 l5 o5 MA5 pb dq lq => ?_)
    · rw [ve] at em
      exact kk.no em.symm (by decide) h' l' o' MA' (u04.ul.trans pb.1) pb.2.1 (mxa.tr3 pb.2.2.1 lkE_pre le4) sp.2.1 sp.2.2 (fun _ => sp.1) dq
    rw [ve] at em
    obtain ⟨u5, H5, mx5, le5⟩ := pb
    have u05 := u04.ul.trans u5
    have mxb := mxa.tr3 mx5 lkE_pre le4
    have hx5'' := preg (lkE_pre (env := vew st Lf fs tt) (ns := (vlk Wd' cm m).2)) hx5'
    obtain ⟨y2, hy2, hp2⟩ := hy2
    have hy2' : y2 ∈ lkE (vew st Lf fs tt) (vlk Wd' cm m).2 es2 := List.IsPrefix.subset lkE_pre hy2
    generalize hes3 : lkE (vew st Lf fs tt) (vlk Wd' cm m).2 es2 = es3 at H5 mx5 le5 mxb lq hx5'' hy2' em
    have ls5 := (ls.ul u05).ma mxb.1.1
    have t05 := H5.1.1.1
    have tX5 := H5.1.2.2.1
    have rM5 : h5.R 2698 X = some M := by rw [u05.1.R (OUL.no (l := [2698]) rfl rfl rfl _ _ rfl)]; exact p1
    obtain ⟨⟨-, md5⟩, lc5, rC5, sc5, tw5⟩ := id ls5
    refine k_X1_publishing_148 (r2 := rM5) oo ?_
    refine lookAt_ok (dq0 := dp0) (dw := dw) (DP := DP) H5 md5 rC5 sc5 tw5 gd dq (fun i _ => dz_le lc5 (vlk_ok ve) i) (by omega) (fun e h' va u6 H6 dq6 sp => ?_) (fun va h6 u6 H6 dq6 => ?_)
    · simp only [va] at em
      exact kk.no em.symm (by decide) h' l5 o5 MA5 (u05.trans u6) H6 mxb sp.2.1 sp.2.2 (fun _ => sp.1) dq6
    simp only [va] at em
    have u06 := u05.trans u6
    have ls6 := (ls.ul u06).ma mxb.1.1
    obtain ⟨⟨-, ⟨-, -⟩, sT6, -, -, mx6⟩, -⟩ := id ls6
    have rM6 : h6.R 2698 X = some M := by rw [u06.1.R (OUL.no (l := [2698]) rfl rfl rfl _ _ rfl)]; exact p1
    obtain ⟨dp6, dq6, dg6⟩ := dq6
    refine pub_156 (n := m.1) (M := M) (ms := ms) (bs := bs) (es := es3) oo H6 ((wd.ul u06).ma mxb.1.1) hE hg hak hm8 hb4 lq sT6.1.1 mx6.1.1 n16 hx5'' hp5 hy2' hp2 ?_ rM6 (by omega) (fun c h' l' o' MA' u7 H7 mx7 e1 e2 => ?_) (fun c h' l' o' MA' u7 H7 mx7 e1 e2 => ?_)
    · rw [mxb.1.1]
      exact hMA c0 (by rw [Bool.eq_false_iff]; exact ct)
    · rw [if_pos c] at em
      exact kk.no em.symm (by decide) h' l' o' MA' (u06.trans u7.ul) H7 (mxb.tr3 mx7 qsk_pre (Nat.le_trans le4 le5)) e1 e2 (fun z => absurd z (by decide)) ⟨dp6, dq6.oub u7.oub⟩
    · rw [if_neg c] at em
      subst em
      refine kk h' l' o' MA' (u06.trans u7.ul) H7 ?_ ⟨e1, e2⟩ (fun z => absurd z (show ¬ ((0 : Nat) = 4) by decide)) ⟨dp6, dq6.oub u7.oub, fun _ m' hm' => by cases hm'; exact dg6⟩
      show MAX _ _ _ (List.map _ (upE _ _ _)) _
      rw [upE_p, upE_p, upE_p] at mx7 ⊢
      exact mxb.tr3 mx7 qsk_pre (Nat.le_trans le4 le5)
end
