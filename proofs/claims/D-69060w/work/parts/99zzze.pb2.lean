/-! a publication: the walk of publishing -/
theorem upE_l {p : Pc} {f : Cn → Cn} {es : List En} : (upE p f es).length = es.length := by unfold upE; rw [List.length_map]
theorem upE_m {p : Pc} {f : Cn → Cn} {es : List En} {x : En} (hx : x ∈ es) (hp : x.1 ≠ p) : x ∈ upE p f es := by
  unfold upE
  exact List.mem_map.mpr ⟨x, hx, if_neg hp⟩
theorem upE_g {p : Pc} {f : Cn → Cn} {es : List En} {e : Nat} {x : En} (hx : es[e]? = some x) (hp : x.1 ≠ p) : (upE p f es)[e]? = some x := by
  unfold upE
  rw [List.getElem?_map, hx]
  exact congrArg some (if_neg hp)
section
variable {B : Nat} {h : AH} {l : List Nat} {o : Lc} {MA : Ma} {es : List En} {wi W A q BA X tt lim SP M ak g : Nat} {F : Nat → Fm} {snd : Int64} {K : Outcome → AH → Prop} {fs : Nat} {fx : Option Nat} {st : Lw} {Lf : Nat → Lw} {RN : Nat → Int32} {Wd' : Wd} {ms : List Nat} {bs : List Pc}
theorem pub_156 {XX : Xt} (oo : OK e_X1_publishing XX) {n e5 : Nat} {x5 : En} {l2 l5 l6 : Value} (H : OPQ 0 fx XX.G B h A W q BA X tt snd lim SP wi MA l o (0, F, es, ak, g)) (wd : WRD h o A W BA tt MA fs st Lf RN) (hE : EVW Wd' (vew st Lf fs tt)) (hg : ∀ p, gss Lf fs tt p = none) (hak : ak ≤ 24) (hm8 : bs.length + ms.length ≤ 25) (hb4 : (4, 0, 0) ∈ bs) (li : LKI (vew st Lf fs tt) ms bs es) (tT : h.tag (M + 1) = some (2, 0)) (nT : h.I 256 (M + 1) = nI n) (hn : n < 65536) (hx5 : (es)[e5]? = some x5) (hp5 : x5.1 = (5, 0, 0)) {y2 : En} (hy2 : y2 ∈ es) (hp2 : y2.1 = (2, lN n, 0)) (hMA : MA.1 n = M) (rM : h.R 2698 X = some M) (hd : 51 ≤ XX.d)
    (kf : (256 : Int64) ≤ (vew st Lf fs tt (4, 0, 0)).2.1 → ∀ h' l' o' MA', OUT wi W h h' o o' → OPQ 0 fx XX.G B h' A W q BA X tt snd lim SP wi MA' l' o' (0, F, qsk (vew st Lf fs tt) es (4, 0, 0), ak, g) → MAX es.length MA MA' ((qsk (vew st Lf fs tt) es (4, 0, 0)).map fun x => x.1) (sco Lf RN fs tt) → h'.I 24 A = nI 2 → h'.J 25 A = lN 4 → K (.threw SP) h')
    (kk : ¬ (256 : Int64) ≤ (vew st Lf fs tt (4, 0, 0)).2.1 → ∀ h' l' o' MA', OUT wi W h h' o o' → OPQ 0 fx XX.G B h' A W q BA X tt snd lim SP wi MA' l' o' (0, F, upE (2, lN n, 0) onT (upE (5, 0, 0) inB (upE (4, 0, 0) inB (qsk (vew st Lf fs tt) es (4, 0, 0)))), ak, g) → MAX es.length MA MA' ((upE (2, lN n, 0) onT (upE (5, 0, 0) inB (upE (4, 0, 0) inB (qsk (vew st Lf fs tt) es (4, 0, 0))))).map fun x => x.1) (sco Lf RN fs tt) → h'.I 24 A = nI 0 → h'.J 25 A = -1 → K (.threw SP) h') :
    V XX K 156 [.ref A, .ref X, l2, .ref (Ea W e5), .ref (M + 1), l5, l6] [] h := by
  have t0 := H.1.1.1
  have tX := H.1.2.2.1
  have ln := li.len
  refine k_X1_publishing_156 oo ?_
  refine cask_p (p := (4, 0, 0)) H wd ⟨by show 4 < 16; omega, by show 0 < _; omega⟩ (by omega) hak ((hE.1 _).2.1 (by show (4 : Nat) ≠ 3; decide)) hg (by omega) fun e4 x4 h1 l1 o1 MA1 u1 H1 mx1 hx4 hp4 => ?_
  have li1 := li.qs (Or.inl hb4)
  have ln1 := li1.len
  have hx5' := preg (qsk_pre (env := vew st Lf fs tt) (p := (4, 0, 0))) hx5
  have hy2' : y2 ∈ qsk (vew st Lf fs tt) es (4, 0, 0) := List.IsPrefix.subset qsk_pre hy2
  have pre1 : es.length ≤ (qsk (vew st Lf fs tt) es (4, 0, 0)).length := qsk_p.1
  generalize hes1 : qsk (vew st Lf fs tt) es (4, 0, 0) = es1 at H1 mx1 hx4 li1 ln1 hx5' hy2' kf kk pre1
  have c4 : x4.2.2.1 = vew st Lf fs tt (4, 0, 0) := by
    have := (li1.2 x4 (List.mem_of_getElem? hx4)).1
    rw [this, hp4]
  obtain ⟨⟨-, ⟨a1, a2, a3⟩, -⟩, ⟨tE4, -⟩, e4b⟩ := H1.en (s := (0, F, es1, ak, g)) hx4
  obtain ⟨⟨-, ⟨b1, b2, b3⟩, -⟩, ⟨tE5, -⟩, e5b⟩ := H1.en (s := (0, F, es1, ak, g)) hx5'
  have e45 : e4 ≠ e5 := fun z => by
    subst z
    rw [hx4] at hx5'
    rw [Option.some.inj hx5', hp5] at hp4
    exact absurd (congrArg Prod.fst hp4) (by decide)
  have t01 := u1.1.tag t0
  have tX1 := u1.1.tag tX
  by_cases c : (256 : Int64) ≤ (vew st Lf fs tt (4, 0, 0)).2.1
  · refine k_X1_publishing_164 (r2 := a2) oo (fun _ => ?_) (fun c' => absurd (by rw [c4]; exact c) c')
    refine k_X1_publishing_183 oo ?_
    refine k_X1_publishing_184 oo ?_
    exact cneed2_ok (b := false) (w := 4) H1.1 (by omega) (by omega) (fun z => by cases z) (fun _ => H1.stop fun h' l' o' u2 H2 e1 e2 => kf c h' l' o' MA1 (u1.trans u2) H2 mx1 e1 e2)
  refine k_X1_publishing_164 (r2 := a2) oo (fun c' => absurd (by rw [c4] at c'; exact c') c) (fun _ => ?_)
  refine k_X1_publishing_179 oo ?_
  refine k_X1_publishing_184 oo ?_
  refine cneed2_ok (b := true) (w := 4) H1.1 (by omega) (by omega) (fun _ => ?_) (fun z => by cases z)
  have eE : Ea W e4 ≠ Ea W e5 := by unfold Ea; omega
  have tT1 := u1.1.tag tT
  have nT1 : h1.I 256 (M + 1) = nI n := by rw [u1.1.I (IP.no (l := [256]) rfl _ _ rfl)]; exact nT
  have b2' : ((h1.sJ 1156 (Ea W e4) (x4.2.2.1.2.1 + 1)).sI 1163 (Ea W e4) (nI 1)).J 1156 (Ea W e5) = x5.2.2.1.2.1 := by
    rw [← b2]; simp [n_sI, z_sI, tag_sI, I_sI, J_sI, R_sI, EI_sI, EJ_sI, ER_sI, n_sJ, z_sJ, tag_sJ, I_sJ, J_sJ, R_sJ, EI_sJ, EJ_sJ, ER_sJ, n_sR, z_sR, tag_sR, I_sR, J_sR, R_sR, EI_sR, EJ_sR, ER_sR, n_sEI, z_sEI, tag_sEI, I_sEI, J_sEI, R_sEI, EI_sEI, EJ_sEI, ER_sEI, n_sEJ, z_sEJ, tag_sEJ, I_sEJ, J_sEJ, R_sEJ, EI_sEJ, EJ_sEJ, ER_sEJ, n_sER, z_sER, tag_sER, I_sER, J_sER, R_sER, EI_sER, EJ_sER, ER_sER, n_nw, z_nw, tag_nw, I_nw, J_nw, R_nw, EI_nw, EJ_nw, ER_nw, eE.symm]
  refine k_X1_publishing_188 (r2 := a2) (r6 := b2') (r10 := nT1) oo ?_
  rw [nI_64 (by omega)]
  generalize hh2 : (h1.sJ 1156 (Ea W e4) (x4.2.2.1.2.1 + 1)).sI 1163 (Ea W e4) (nI 1) = h2 at b2'
  have q2 : Fq (PEb W e4) h1 h2 := by
    rw [← hh2]
    exact Fq.sI (Fq.sJ (Fq.refl h1) ⟨Or.inr (Or.inl rfl), rfl⟩) ⟨Or.inr (Or.inr rfl), rfl⟩
  obtain ⟨u2, H2⟩ := H1.acc (th := x4.2.2.1.1) (bal := x4.2.2.1.2.1 + 1) hx4 (by rw [hp4]; decide) q2 (by rw [← hh2, ← a1]; simp [n_sI, z_sI, tag_sI, I_sI, J_sI, R_sI, EI_sI, EJ_sI, ER_sI, n_sJ, z_sJ, tag_sJ, I_sJ, J_sJ, R_sJ, EI_sJ, EJ_sJ, ER_sJ, n_sR, z_sR, tag_sR, I_sR, J_sR, R_sR, EI_sR, EJ_sR, ER_sR, n_sEI, z_sEI, tag_sEI, I_sEI, J_sEI, R_sEI, EI_sEI, EJ_sEI, ER_sEI, n_sEJ, z_sEJ, tag_sEJ, I_sEJ, J_sEJ, R_sEJ, EI_sEJ, EJ_sEJ, ER_sEJ, n_sER, z_sER, tag_sER, I_sER, J_sER, R_sER, EI_sER, EJ_sER, ER_sER, n_nw, z_nw, tag_nw, I_nw, J_nw, R_nw, EI_nw, EJ_nw, ER_nw]) (by rw [← hh2]; simp [n_sI, z_sI, tag_sI, I_sI, J_sI, R_sI, EI_sI, EJ_sI, ER_sI, n_sJ, z_sJ, tag_sJ, I_sJ, J_sJ, R_sJ, EI_sJ, EJ_sJ, ER_sJ, n_sR, z_sR, tag_sR, I_sR, J_sR, R_sR, EI_sR, EJ_sR, ER_sR, n_sEI, z_sEI, tag_sEI, I_sEI, J_sEI, R_sEI, EI_sEI, EJ_sEI, ER_sEI, n_sEJ, z_sEJ, tag_sEJ, I_sEJ, J_sEJ, R_sEJ, EI_sEJ, EJ_sEJ, ER_sEJ, n_sER, z_sER, tag_sER, I_sER, J_sER, R_sER, EI_sER, EJ_sER, ER_sER, n_nw, z_nw, tag_nw, I_nw, J_nw, R_nw, EI_nw, EJ_nw, ER_nw]) (by rw [← hh2]; simp [n_sI, z_sI, tag_sI, I_sI, J_sI, R_sI, EI_sI, EJ_sI, ER_sI, n_sJ, z_sJ, tag_sJ, I_sJ, J_sJ, R_sJ, EI_sJ, EJ_sJ, ER_sJ, n_sR, z_sR, tag_sR, I_sR, J_sR, R_sR, EI_sR, EJ_sR, ER_sR, n_sEI, z_sEI, tag_sEI, I_sEI, J_sEI, R_sEI, EI_sEI, EJ_sEI, ER_sEI, n_sEJ, z_sEJ, tag_sEJ, I_sEJ, J_sEJ, R_sEJ, EI_sEJ, EJ_sEJ, ER_sEJ, n_sER, z_sER, tag_sER, I_sER, J_sER, R_sER, EI_sER, EJ_sER, ER_sER, n_nw, z_nw, tag_nw, I_nw, J_nw, R_nw, EI_nw, EJ_nw, ER_nw])
  rw [sEn_at hx4] at H2
  have s2 : es1.set e4 (cEn (inB x4.2.2.1) true x4) = upE (4, 0, 0) inB es1 := upE_set li1.1 hx4 hp4
  have H2 : OPQ 0 fx XX.G B h2 A W q BA X tt snd lim SP wi MA1 l1 o1 (0, F, es1.set e4 (cEn (inB x4.2.2.1) true x4), ak, g) := H2
  rw [s2] at H2
  have hx5 := upE_g (f := inB) (p := (4, 0, 0)) hx5' (by rw [hp5]; decide)
  have hy3 := upE_m (f := inB) (p := (4, 0, 0)) hy2' (by rw [hp2]; exact fun z => absurd (congrArg Prod.fst z) (show ¬ ((2 : Nat) = 4) by decide))
  have nd2 : ((upE (4, 0, 0) inB es1).map fun x => x.1).Nodup := by rw [upE_p]; exact li1.1
  obtain ⟨⟨-, ⟨d1, d2, d3⟩, -⟩, -, -⟩ := H2.en (s := (0, F, upE (4, 0, 0) inB es1, ak, g)) hx5
  generalize hh3 : (h2.sJ 1156 (Ea W e5) (x5.2.2.1.2.1 + 1)).sI 1163 (Ea W e5) (nI 1) = h3
  have q3 : Fq (PEb W e5) h2 h3 := by
    rw [← hh3]
    exact Fq.sI (Fq.sJ (Fq.refl h2) ⟨Or.inr (Or.inl rfl), rfl⟩) ⟨Or.inr (Or.inr rfl), rfl⟩
  obtain ⟨u3, H3⟩ := H2.acc (th := x5.2.2.1.1) (bal := x5.2.2.1.2.1 + 1) hx5 (by rw [hp5]; decide) q3 (by rw [← hh3, ← d1]; simp [n_sI, z_sI, tag_sI, I_sI, J_sI, R_sI, EI_sI, EJ_sI, ER_sI, n_sJ, z_sJ, tag_sJ, I_sJ, J_sJ, R_sJ, EI_sJ, EJ_sJ, ER_sJ, n_sR, z_sR, tag_sR, I_sR, J_sR, R_sR, EI_sR, EJ_sR, ER_sR, n_sEI, z_sEI, tag_sEI, I_sEI, J_sEI, R_sEI, EI_sEI, EJ_sEI, ER_sEI, n_sEJ, z_sEJ, tag_sEJ, I_sEJ, J_sEJ, R_sEJ, EI_sEJ, EJ_sEJ, ER_sEJ, n_sER, z_sER, tag_sER, I_sER, J_sER, R_sER, EI_sER, EJ_sER, ER_sER, n_nw, z_nw, tag_nw, I_nw, J_nw, R_nw, EI_nw, EJ_nw, ER_nw]) (by rw [← hh3]; simp [n_sI, z_sI, tag_sI, I_sI, J_sI, R_sI, EI_sI, EJ_sI, ER_sI, n_sJ, z_sJ, tag_sJ, I_sJ, J_sJ, R_sJ, EI_sJ, EJ_sJ, ER_sJ, n_sR, z_sR, tag_sR, I_sR, J_sR, R_sR, EI_sR, EJ_sR, ER_sR, n_sEI, z_sEI, tag_sEI, I_sEI, J_sEI, R_sEI, EI_sEI, EJ_sEI, ER_sEI, n_sEJ, z_sEJ, tag_sEJ, I_sEJ, J_sEJ, R_sEJ, EI_sEJ, EJ_sEJ, ER_sEJ, n_sER, z_sER, tag_sER, I_sER, J_sER, R_sER, EI_sER, EJ_sER, ER_sER, n_nw, z_nw, tag_nw, I_nw, J_nw, R_nw, EI_nw, EJ_nw, ER_nw]) (by rw [← hh3]; simp [n_sI, z_sI, tag_sI, I_sI, J_sI, R_sI, EI_sI, EJ_sI, ER_sI, n_sJ, z_sJ, tag_sJ, I_sJ, J_sJ, R_sJ, EI_sJ, EJ_sJ, ER_sJ, n_sR, z_sR, tag_sR, I_sR, J_sR, R_sR, EI_sR, EJ_sR, ER_sR, n_sEI, z_sEI, tag_sEI, I_sEI, J_sEI, R_sEI, EI_sEI, EJ_sEI, ER_sEI, n_sEJ, z_sEJ, tag_sEJ, I_sEJ, J_sEJ, R_sEJ, EI_sEJ, EJ_sEJ, ER_sEJ, n_sER, z_sER, tag_sER, I_sER, J_sER, R_sER, EI_sER, EJ_sER, ER_sER, n_nw, z_nw, tag_nw, I_nw, J_nw, R_nw, EI_nw, EJ_nw, ER_nw])
  rw [sEn_at hx5] at H3
  have s3 : (upE (4, 0, 0) inB es1).set e5 (cEn (inB x5.2.2.1) true x5) = upE (5, 0, 0) inB (upE (4, 0, 0) inB es1) := upE_set nd2 hx5 hp5
  have H3 : OPQ 0 fx XX.G B h3 A W q BA X tt snd lim SP wi MA1 l1 o1 (0, F, (upE (4, 0, 0) inB es1).set e5 (cEn (inB x5.2.2.1) true x5), ak, g) := H3
  rw [s3] at H3
  have hy4 := upE_m (f := inB) (p := (5, 0, 0)) hy3 (by rw [hp2]; exact fun z => absurd (congrArg Prod.fst z) (show ¬ ((2 : Nat) = 5) by decide))
  have nd3 : ((upE (5, 0, 0) inB (upE (4, 0, 0) inB es1)).map fun x => x.1).Nodup := by rw [upE_p]; exact nd2
  have p3 : (upE (5, 0, 0) inB (upE (4, 0, 0) inB es1)).map (fun x => x.1) = es1.map fun x => x.1 := by rw [upE_p, upE_p]
  have l3 : (upE (5, 0, 0) inB (upE (4, 0, 0) inB es1)).length = es1.length := by rw [upE_l, upE_l]
  have u13 : OUT wi W h h3 o o1 := u1.trans (u2.trans u3)
  generalize upE (5, 0, 0) inB (upE (4, 0, 0) inB es1) = es3 at H3 hy4 nd3 p3 l3 kk
  have qi : qsk (vew st Lf fs tt) es3 (2, lN n, 0) = es3 := qsk_in hy4 hp2
  refine cask_p (p := (2, lN n, 0)) H3 ((wd.oub u13.oub).ma mx1.1.1) ⟨by show 2 < 16; omega, by show 0 < _; omega⟩ (by omega) hak ((hE.1 _).2.1 (by show (2 : Nat) ≠ 3; decide)) hg (by omega) fun e2 x2 h4 l4 o4 MA4 u4 H4 mx4 hx2 hp2' => ?_
  rw [qi] at H4 mx4 hx2
  have mx5 : MAX es.length MA MA4 (es3.map fun x => x.1) (sco Lf RN fs tt) := by
    rw [p3] at mx4 ⊢
    exact mx1.tr2 (by rw [List.length_map, ← l3]; exact mx4) (fun _ _ => rfl) (by rw [List.length_map]; exact pre1)
  have u14 := u13.trans u4
  have rM4 : h4.R 2698 X = some M := by rw [u14.1.R (IP.no (l := [2698]) rfl _ _ rfl)]; exact rM
  have t04 := u14.1.tag t0
  have tX4 := u14.1.tag tX
  obtain ⟨-, ⟨tE2, -⟩, e2b⟩ := H4.en (s := (0, F, es3, ak, g)) hx2
  refine k_X1_publishing_233 (r4 := rM4) oo ?_
  generalize hh5 : ((h4.sI 1155 (Ea W e2) (nI 1)).sR 1158 (Ea W e2) (some M)).sI 1163 (Ea W e2) (nI 1) = h5
  have q5 : Fq (PEm W e2) h4 h5 := by
    rw [← hh5]
    exact Fq.sI (Fq.sR (Fq.sI (Fq.refl h4) ⟨Or.inl rfl, rfl⟩) ⟨Or.inr (Or.inl rfl), rfl⟩) ⟨Or.inr (Or.inr rfl), rfl⟩
  have m4 : MA4.1 (un x2.1.2.1) = M := by
    rw [hp2', mx5.1.1]
    show MA.1 (un (lN n)) = M
    rw [un_l (by omega)]; exact hMA
  obtain ⟨u5, H5⟩ := H4.mdw hx2 q5 (by rw [← hh5]; simp [n_sI, z_sI, tag_sI, I_sI, J_sI, R_sI, EI_sI, EJ_sI, ER_sI, n_sJ, z_sJ, tag_sJ, I_sJ, J_sJ, R_sJ, EI_sJ, EJ_sJ, ER_sJ, n_sR, z_sR, tag_sR, I_sR, J_sR, R_sR, EI_sR, EJ_sR, ER_sR, n_sEI, z_sEI, tag_sEI, I_sEI, J_sEI, R_sEI, EI_sEI, EJ_sEI, ER_sEI, n_sEJ, z_sEJ, tag_sEJ, I_sEJ, J_sEJ, R_sEJ, EI_sEJ, EJ_sEJ, ER_sEJ, n_sER, z_sER, tag_sER, I_sER, J_sER, R_sER, EI_sER, EJ_sER, ER_sER, n_nw, z_nw, tag_nw, I_nw, J_nw, R_nw, EI_nw, EJ_nw, ER_nw]; rfl) (by rw [m4, ← hh5]; simp [n_sI, z_sI, tag_sI, I_sI, J_sI, R_sI, EI_sI, EJ_sI, ER_sI, n_sJ, z_sJ, tag_sJ, I_sJ, J_sJ, R_sJ, EI_sJ, EJ_sJ, ER_sJ, n_sR, z_sR, tag_sR, I_sR, J_sR, R_sR, EI_sR, EJ_sR, ER_sR, n_sEI, z_sEI, tag_sEI, I_sEI, J_sEI, R_sEI, EI_sEI, EJ_sEI, ER_sEI, n_sEJ, z_sEJ, tag_sEJ, I_sEJ, J_sEJ, R_sEJ, EI_sEJ, EJ_sEJ, ER_sEJ, n_sER, z_sER, tag_sER, I_sER, J_sER, R_sER, EI_sER, EJ_sER, ER_sER, n_nw, z_nw, tag_nw, I_nw, J_nw, R_nw, EI_nw, EJ_nw, ER_nw]) (by rw [← hh5]; simp [n_sI, z_sI, tag_sI, I_sI, J_sI, R_sI, EI_sI, EJ_sI, ER_sI, n_sJ, z_sJ, tag_sJ, I_sJ, J_sJ, R_sJ, EI_sJ, EJ_sJ, ER_sJ, n_sR, z_sR, tag_sR, I_sR, J_sR, R_sR, EI_sR, EJ_sR, ER_sR, n_sEI, z_sEI, tag_sEI, I_sEI, J_sEI, R_sEI, EI_sEI, EJ_sEI, ER_sEI, n_sEJ, z_sEJ, tag_sEJ, I_sEJ, J_sEJ, R_sEJ, EI_sEJ, EJ_sEJ, ER_sEJ, n_sER, z_sER, tag_sER, I_sER, J_sER, R_sER, EI_sER, EJ_sER, ER_sER, n_nw, z_nw, tag_nw, I_nw, J_nw, R_nw, EI_nw, EJ_nw, ER_nw])
  rw [sEn_at hx2] at H5
  have s5 : es3.set e2 (cEn (onT x2.2.2.1) true x2) = upE (2, lN n, 0) onT es3 := upE_set nd3 hx2 hp2'
  have H5 : OPQ 0 fx XX.G B h5 A W q BA X tt snd lim SP wi MA4 l4 o4 (0, F, es3.set e2 (cEn (onT x2.2.2.1) true x2), ak, g) := H5
  rw [s5] at H5
  exact cstop_ok (w := 0) (c := -1) H5.1 (H5.stop fun h' l' o' u6 H6 e1 e2 => kk c h' l' o' MA4 (u14.trans (u5.trans u6)) H6 (by rw [upE_p]; exact mx5) e1 e2)
end
