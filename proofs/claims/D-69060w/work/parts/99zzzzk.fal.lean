/-! the ledger's face: coins are made -/
def mntX (st : Lw) (ad co : Int64) : Pc × Cn × Bool := ((1, ad, 0), (true, (vsw st (1, ad, 0)).2.1 + co, (vsw st (1, ad, 0)).2.2.1, none), false)
def mntS (st : Lw) (ad co : Int64) : Lw := tk2 st (mntX st ad co)
def mntG (a : Ab) (ad co : Int64) : Prop := ¬ co < 0 ∧ co < 4611686018427387904 - a.2.1.1 + a.2.1.2 ∧ ((vsw a.2.2.2.2.2.1.2.2.1 (1, ad, 0)).1 = true ∨ a.2.2.2.2.2.1.2.2.1.length ≠ 256)
def abM (a : Ab) (ad co : Int64) : Ab := (a.1, (a.2.1.1 + co, a.2.1.2), a.2.2.1, a.2.2.2.1, a.2.2.2.2.1, (a.2.2.2.2.2.1.1, a.2.2.2.2.2.1.2.1, mntS a.2.2.2.2.2.1.2.2.1 ad co, a.2.2.2.2.2.1.2.2.2), a.2.2.2.2.2.2)
section
variable {W : Wd} {cm : Md} {st : Lw} {ad co : Int64} {ms : List Nat}
theorem mntS_t : mntS st ad co = tkOv st [mntX st ad co] := by
  unfold mntS tkOv
  rw [List.foldl_cons, List.foldl_nil, List.foldl_cons, List.foldl_nil]
  have : tk1 st (mntX st ad co) = st := if_pos (Or.inl rfl)
  rw [this]
theorem mnt_ok {s : Qs} (q : QOK cm s ms) (hf : (vsw s.2.2.1 (1, ad, 0)).1 = true ∨ s.2.2.1.length ≠ 256) : QOK cm (s.1, s.2.1, mntS s.2.2.1 ad co, s.2.2.2) ms := by
  obtain ⟨⟨⟨⟨w, h256⟩, hE, hsz⟩, k1s⟩, mst, wok⟩ := q
  have nd : (plw [mntX s.2.2.1 ad co]).Nodup := by simp [plw]
  have k1 : (((1, ad, 0) : Pc)).1 < 4 := by show 1 < 4; omega
  have hl : (tkOv s.2.2.1 [mntX s.2.2.1 ad co]).length ≤ 256 := by
    have tl := tkO_len w nd
    rw [List.map_cons, List.map_nil, List.sum_cons, List.sum_nil] at tl
    have d1 : dl1 s.2.2.1 (mntX s.2.2.1 ad co) ≤ 1 := dl1_le
    rcases hf with hf | hf
    · have tn : tn1 s.2.2.1 (1, ad, 0) = 1 := by rw [tn1_c w, ← vsw_3 k1, if_pos hf]
      have : dl1 s.2.2.1 (mntX s.2.2.1 ad co) = 0 := by
        unfold dl1
        have e : (mntX s.2.2.1 ad co).1 = (1, ad, 0) := rfl
        rw [if_pos ⟨k1, rfl⟩, e, if_pos k1, tn]
        rfl
      omega
    · omega
  rw [mntS_t]
  refine ⟨⟨⟨⟨?_, ?_⟩, ?_, ?_⟩, k1s.tk w nd (fun y hy => by
    rw [List.mem_singleton] at hy
    subst hy
    exact Nat.le_refl 1)⟩, ?_, wok⟩
  · exact (tkO_w w nd).1
  · exact hl
  · refine EVW.tk (lo := 0) w nd hE (fun y hy => ?_) hl
    rw [List.mem_singleton] at hy
    subst hy
    exact ⟨CKn.nr (show (1 : Nat) ≠ 3 by decide), show (1 : Nat) ≠ 2 by decide, fun e => absurd (congrArg Prod.fst e) (show (1 : Nat) ≠ 4 by decide), fun v hv => by cases hv⟩
  · refine tkO_sz hsz (fun y hy v hv => ?_)
    rw [List.mem_singleton] at hy
    subst hy
    cases hv
  · refine mst.tk w nd (fun y hy => ?_)
    rw [List.mem_singleton] at hy
    subst hy
    show (1 : Nat) ≠ 2; decide
end
section
variable {n B : Nat} {G : Gt} {cm : Md} {y : Ly} {X : Nat → TxC} {pb : Nat → Bool} {BT : Nat → By} {f ct e : Nat} {s : Qs} {bn : Int64} {h h' : AH} {st' : Lw}
/-- one entry of the state changes -/
theorem EXV.st1 (ev : EXV n G B cm y X pb BT f ct s bn h) (q : Fq (PS1 (yE y) e) h h') (he : e < 256) (hq : ∀ ms, QOK cm s ms → QOK cm (s.1, s.2.1, st', s.2.2.2) ms) (hw : STW st' ∧ ∀ y ∈ st', ∀ v, y.2.1.2.2.2 = some v → fdp v.2.2 ≤ 40) (hE : ∀ MA o, EtR h o 0 0 (yE y) 256 MA s.2.2.1 → EtR h' o 0 0 (yE y) 256 MA st') : EXV n G B cm y X pb BT f ct (s.1, s.2.1, st', s.2.2.2) bn h' := by
  obtain ⟨MA, mw, dx, ms, g, l, o, ⟨e1, e2⟩, e3, e4, e5, e6, e7⟩ := ev
  have nf : ∀ l : List Nat, l.all (fun f => !((1025 :: frF).contains f)) = true → ∀ f a, l.contains f = true → ¬ PS1 (yE y) e f a := fun l hl => PS1.no hl
  obtain ⟨v', tg⟩ := e1.2.2.2.2.2.1.oth q (fun f a hv z => by
    have : ∀ f ∈ (1025 :: frF), ¬ ((3712 ≤ f ∧ f ≤ 3718) ∨ f = 1280) := by decide
    rcases z with z | z
    · exact this f (by rw [z.1]; exact List.mem_cons_self ..) hv
    · exact this f (List.mem_cons_of_mem _ (List.contains_iff_mem.mp z.1)) hv)
  have qT : Fr (PTm (yA y) (yX y 0) (yE y) (yL y 0)) h h' := q.1.mono fun f a z => Or.inl (Or.inl (Or.inl (Or.inr (by
    rcases z with z | z
    · exact ⟨by rw [z.1]; rfl, by omega⟩
    · refine ⟨?_, by omega⟩
      have : frF.all (fun f => (1025 :: etE).contains f) = true := rfl
      rw [List.all_eq_true] at this
      exact this f (List.contains_iff_mem.mp z.1)))))
  have far : yE y + 258 ≤ yL y 0 ∨ yL y 0 + 32 ≤ yE y := (e1.1.2.2.2 0 (by omega)).1
  have c1 : CML (y, MA, s.1, X, pb) n G B st' (cgl g 0) h' l o := by
    refine CML.ov (t := 0) e1 (by omega) qT v' (hE MA o e1.2.2.2.1) ?_ (fun p _ _ => rfl) (fun p z hz => ⟨⟨p, hz⟩, tg p z (by simp) hz⟩) ⟨fun z hz => (hw.1.2 z hz).1, hw.2, fun e' he' => ?_⟩
    · have := (e1.2.1 0 (by omega)).2.2.1
      rw [e2 0 (by omega)] at this
      refine this.fr q.1 (fun f a hf a1 a2 z => ?_) (fun _ => rfl)
      have a1 : yL y 0 ≤ a := a1
      have a2 : a < yL y 0 + 2 + 30 := a2
      rcases z with z | z
      · have := z.2; omega
      · have := z.2; omega
    · rw [q.1.I (nf [1164] rfl _ _ rfl)]
      exact e1.2.2.2.2.2.2.2.2.2 e' he'
  refine ⟨MA, mw, dx, ms, cgl g 0, l, o, ⟨c1, fun k hk => ?_⟩, hq ms e3, e4, e5, e6.fr q.1 (nf mwdF (by decide)) (fun a => nf [10000 + 192] (by decide) _ _ rfl) (fun k _ => by rw [q.1.R (nf [2698] rfl _ _ rfl)]) (by rw [q.1.I (nf [32] rfl _ _ rfl)]) (Nat.le_refl _), by rw [q.1.J (nf [18] rfl _ _ rfl)]; exact e7⟩
  rw [cgl_L]
  split
  · rfl
  · exact e2 k hk
end
section
variable {n B : Nat} {G : Gt} {cm : Md} {y : Ly} {lx : Lx} {a : Ab} {h h' : AH} {d : Nat} {K : Outcome → AH → Prop} {P : Nat → Nat → Prop}
def mntF : List Nat := [1025, 17, 20] ++ frF
theorem mint_ok {ad co : Int64} (r : RCm n G B cm y lx a h) (hd : 2 ≤ d) (k0 : ¬ mntG a ad co → K (.returned (some (.int (nI 0)))) h) (kk : mntG a ad co → ∀ h', RCm n G B cm y lx (abM a ad co) h' → Fr (FS mntF) h h' → h'.I 20 (yA y) = nI 0 → K (.returned (some (.int (nI 1)))) h') : MW G d e_X1_mint [.ref (yA y), .long ad, .long co] h K := by
  refine st_X1_mint fun X o hG hD _ => ?_
  subst hG; subst hD
  have t0 := r.t0
  have bn := r.bn
  have mn := r.2.1.1
  obtain ⟨MA, l, oo, ms, ⟨rE, et⟩, vh, qk, so⟩ := r.st
  have tE := et.1.1.1.1
  have cE := et.1.2.1.1
  rw [List.length_map] at cE
  have n256 := qk.1.1.1.2
  have k1 : (((1, ad, 0) : Pc)).1 < 4 := by show 1 < 4; omega
  by_cases c0 : co < 0
  · exact k_X1_mint_0 o (fun _ => k_X1_mint_24 o (k0 (fun q => q.1 c0))) (fun q => absurd c0 q)
  refine k_X1_mint_0 o (fun q => absurd q c0) (fun _ => ?_)
  by_cases c1 : co < 4611686018427387904 - a.2.1.1 + a.2.1.2
  case neg => exact k_X1_mint_6 (r2 := mn) (r4 := bn) o (fun q => absurd q c1) (fun _ => k_X1_mint_24 o (k0 (fun q => c1 q.2.1)))
  refine k_X1_mint_6 (r2 := mn) (r4 := bn) o (fun _ => ?_) (fun q => absurd c1 q)
  refine k_X1_mint_26 o ?_
  refine find_ok (q := (1, ad, 0)) et.1 ⟨by show 1 < _; omega, by show 0 < _; omega⟩ (by omega) ?_
  rw [fidx_map]
  -- the end, from any heap where the entry lies
  have fin : ∀ (e : Nat) (h1 : AH), e < 256 → Fq (PS1 (yE y) e) h h1 → h1.tag (yE y + 2 + e) = some (9, 0) → h1.J 1156 (yE y + 2 + e) = (vsw a.2.2.2.2.2.1.2.2.1 (1, ad, 0)).2.1 → ((vsw a.2.2.2.2.2.1.2.2.1 (1, ad, 0)).1 = true ∨ a.2.2.2.2.2.1.2.2.1.length ≠ 256) → (∀ h2, Fr (fun f a' => f = 1156 ∧ a' = yE y + 2 + e) h1 h2 → h2.J 1156 (yE y + 2 + e) = (vsw a.2.2.2.2.2.1.2.2.1 (1, ad, 0)).2.1 + co → ∀ MA o, EtR h o 0 0 (yE y) 256 MA a.2.2.2.2.2.1.2.2.1 → EtR h2 o 0 0 (yE y) 256 MA (mntS a.2.2.2.2.2.1.2.2.1 ad co)) → V X K 72 [.ref (yA y), .long ad, nov, .long co, nov, .ref (yE y + 2 + e)] [] h1 := fun e h1 he q1 te hb hg hE => by
    have t01 := q1.1.tag t0
    have mn1 : h1.J 17 (yA y) = a.2.1.1 := by rw [q1.1.J (PS1.no (l := [17]) rfl _ _ rfl)]; exact mn
    refine k_X1_mint_72 (r2 := hb) (r5 := mn1) o ?_
    have q2 : Fq (fun f a' => f = 1156 ∧ a' = yE y + 2 + e) h1 (h1.sJ 1156 (yE y + 2 + e) ((vsw a.2.2.2.2.2.1.2.2.1 (1, ad, 0)).2.1 + co)) := Fq.sJ (Fq.refl h1) ⟨rfl, rfl⟩
    have b2 : (h1.sJ 1156 (yE y + 2 + e) ((vsw a.2.2.2.2.2.1.2.2.1 (1, ad, 0)).2.1 + co)).J 1156 (yE y + 2 + e) = (vsw a.2.2.2.2.2.1.2.2.1 (1, ad, 0)).2.1 + co := by simp [n_sI, z_sI, tag_sI, I_sI, J_sI, R_sI, EI_sI, EJ_sI, ER_sI, n_sJ, z_sJ, tag_sJ, I_sJ, J_sJ, R_sJ, EI_sJ, EJ_sJ, ER_sJ, n_sR, z_sR, tag_sR, I_sR, J_sR, R_sR, EI_sR, EJ_sR, ER_sR, n_sEI, z_sEI, tag_sEI, I_sEI, J_sEI, R_sEI, EI_sEI, EJ_sEI, ER_sEI, n_sEJ, z_sEJ, tag_sEJ, I_sEJ, J_sEJ, R_sEJ, EI_sEJ, EJ_sEJ, ER_sEJ, n_sER, z_sER, tag_sER, I_sER, J_sER, R_sER, EI_sER, EJ_sER, ER_sER, n_nw, z_nw, tag_nw, I_nw, J_nw, R_nw, EI_nw, EJ_nw, ER_nw]
    generalize h1.sJ 1156 (yE y + 2 + e) ((vsw a.2.2.2.2.2.1.2.2.1 (1, ad, 0)).2.1 + co) = h2 at q2 b2
    have q12 : Fq (PS1 (yE y) e) h h2 := q1.trans (q2.mono fun f a' z => Or.inr ⟨by rw [z.1]; rfl, z.2⟩)
    have q3 : Fq (FS [17, 20]) h2 ((h2.sJ 17 (yA y) (a.2.1.1 + co)).sI 20 (yA y) (nI 0)) := Fq.sI (Fq.sJ (Fq.refl h2) (fsr rfl)) (fsr rfl)
    have m3 : ((h2.sJ 17 (yA y) (a.2.1.1 + co)).sI 20 (yA y) (nI 0)).J 17 (yA y) = a.2.1.1 + co := by simp [n_sI, z_sI, tag_sI, I_sI, J_sI, R_sI, EI_sI, EJ_sI, ER_sI, n_sJ, z_sJ, tag_sJ, I_sJ, J_sJ, R_sJ, EI_sJ, EJ_sJ, ER_sJ, n_sR, z_sR, tag_sR, I_sR, J_sR, R_sR, EI_sR, EJ_sR, ER_sR, n_sEI, z_sEI, tag_sEI, I_sEI, J_sEI, R_sEI, EI_sEI, EJ_sEI, ER_sEI, n_sEJ, z_sEJ, tag_sEJ, I_sEJ, J_sEJ, R_sEJ, EI_sEJ, EJ_sEJ, ER_sEJ, n_sER, z_sER, tag_sER, I_sER, J_sER, R_sER, EI_sER, EJ_sER, ER_sER, n_nw, z_nw, tag_nw, I_nw, J_nw, R_nw, EI_nw, EJ_nw, ER_nw]
    have o3 : ((h2.sJ 17 (yA y) (a.2.1.1 + co)).sI 20 (yA y) (nI 0)).I 20 (yA y) = nI 0 := by simp [n_sI, z_sI, tag_sI, I_sI, J_sI, R_sI, EI_sI, EJ_sI, ER_sI, n_sJ, z_sJ, tag_sJ, I_sJ, J_sJ, R_sJ, EI_sJ, EJ_sJ, ER_sJ, n_sR, z_sR, tag_sR, I_sR, J_sR, R_sR, EI_sR, EJ_sR, ER_sR, n_sEI, z_sEI, tag_sEI, I_sEI, J_sEI, R_sEI, EI_sEI, EJ_sEI, ER_sEI, n_sEJ, z_sEJ, tag_sEJ, I_sEJ, J_sEJ, R_sEJ, EI_sEJ, EJ_sEJ, ER_sEJ, n_sER, z_sER, tag_sER, I_sER, J_sER, R_sER, EI_sER, EJ_sER, ER_sER, n_nw, z_nw, tag_nw, I_nw, J_nw, R_nw, EI_nw, EJ_nw, ER_nw]
    generalize (h2.sJ 17 (yA y) (a.2.1.1 + co)).sI 20 (yA y) (nI 0) = h3 at q3 m3 o3
    obtain ⟨⟨r1, ⟨r2, r3, r4⟩, r5⟩, ⟨r6, r7, ⟨wv, r8⟩, r9, r9'⟩, ⟨r10, r11⟩, ⟨r12, r13, r14, r15⟩, r16⟩ := id r
    have nw : STW (mntS a.2.2.2.2.2.1.2.2.1 ad co) ∧ ∀ y ∈ mntS a.2.2.2.2.2.1.2.2.1 ad co, ∀ v, y.2.1.2.2.2 = some v → fdp v.2.2 ≤ 40 := by
      have := (mnt_ok (ad := ad) (co := co) qk hg).1.1
      refine ⟨this.1.1, fun z hz v hv => ?_⟩
      have hz' := hz
      unfold mntS tk2 at hz'
      rw [if_pos ⟨k1, rfl⟩] at hz'
      split at hz'
      · rcases List.mem_append.mp hz' with w | w
        · exact so.2.1 z w v hv
        · rw [List.mem_singleton] at w
          rw [w] at hv; cases hv
      · rcases List.mem_or_eq_of_mem_set hz' with w | w
        · exact so.2.1 z w v hv
        · rw [w] at hv; cases hv
    have ex := (r1.st1 (st' := mntS a.2.2.2.2.2.1.2.2.1 ad co) q12 he (fun ms q => mnt_ok q hg) nw (hE h2 q2.1 b2)).fr q3 (nol (by decide)) (nov_l (by decide)) (Nat.le_refl _)
    have np : ∀ l : List Nat, l.all (fun f => !((1025 :: frF).contains f)) = true → l.all (fun f => !([17, 20].contains f)) = true → ∀ f a', l.contains f = true → h3.I f a' = h.I f a' := fun l h1 h2 f a' hf => by rw [q3.1.I (nol h2 f a' hf), q12.1.I (PS1.no h1 f a' hf)]
    have q4 : Fr (FS mntF) h h3 := (q12.1.mono fun f a' z => by
      show mntF.contains f = true
      rcases z with z | z
      · rw [z.1]; decide
      · have : frF.all (fun f => mntF.contains f) = true := by decide
        rw [List.all_eq_true] at this
        exact this f (List.contains_iff_mem.mp z.1)).trans (q3.1.mono fun f a' z => by
      have : [17, 20].all (fun f => mntF.contains f) = true := by decide
      rw [List.all_eq_true] at this
      exact this f (List.contains_iff_mem.mp z))
    have n4 : ∀ l : List Nat, l.all (fun f => !(mntF.contains f)) = true → ∀ f a', l.contains f = true → ¬ FS mntF f a' := fun l hl => nol hl
    refine kk ⟨c0, c1, hg⟩ h3 ⟨⟨ex, ⟨by rw [q4.I (n4 [5] (by decide) _ _ rfl)]; exact r2, by rw [q4.I (n4 [4] (by decide) _ _ rfl)]; exact r3, r4⟩, r5⟩, ⟨m3, r7.fr q4 (n4 _ (by decide)), ⟨wv, r8.fr q4 (n4 _ (by decide))⟩, r9.fr q4 (n4 _ (by decide)), r9'⟩, ⟨fun k k1 k2 => ?_, fun k k1 k2 => ?_⟩, ⟨by rw [q4.R (n4 [13] (by decide) _ _ rfl)]; exact r12, r13.fr q4 (n4 _ (by decide)), q4.tag r14, r15.fr q4 (n4 [14096] (by decide) _ _ rfl)⟩, r16⟩ q4 o3
    · obtain ⟨x1, x2⟩ := r10 k k1 k2
      exact ⟨x1.fr q4 (fun f hf a' _ => n4 (txF ++ resF) (by decide) f a' hf), by rw [q4.I (n4 [2701] (by decide) _ _ rfl)]; exact x2⟩
    · rw [q4.I (n4 [2701] (by decide) _ _ rfl)]; exact r11 k k1 k2
  cases hf : a.2.2.2.2.2.1.2.2.1.findIdx? (fun x => x.1 == (1, ad, 0)) with
  | some e =>
    obtain ⟨z, z1, z2⟩ := fidx_s hf
    obtain ⟨⟨y1, y2, y3⟩, -⟩ := et.2.1 e _ z2
    have el := (List.getElem?_eq_some_iff.mp z2).1
    have hc := (qk.1.1.1.1.2 _ (List.mem_of_getElem? z2)).1.1
    have e4 : vsw a.2.2.2.2.2.1.2.2.1 (1, ad, 0) = z.1 := by
      rw [vsw_3 k1]
      unfold lfc
      rw [z1]
      exact ctf hc
    have te := (et.1.1.2 e (by omega)).2
    refine k_X1_mint_36 o (fun ca => by cases ca) (fun a' ca => ?_)
    rw [← Option.some.inj ca]
    refine k_X1_mint_58 (l5 := some (yE y + 2 + e)) o (fun ca => by cases ca) (fun a' ca => ?_)
    rw [← Option.some.inj ca]
    refine fin e h (by omega) (Fq.refl h) te (by rw [e4]; exact y2) (Or.inl (by rw [e4]; exact hc)) (fun h2 q2 b2 MA2 o2 et2 => ?_)
    have es : mntS a.2.2.2.2.2.1.2.2.1 ad co = a.2.2.2.2.2.1.2.2.1.set e (mntX a.2.2.2.2.2.1.2.2.1 ad co) := by
      unfold mntS tk2
      rw [if_pos ⟨k1, rfl⟩]
      have : (a.2.2.2.2.2.1.2.2.1.findIdx? fun y => y.1 == (mntX a.2.2.2.2.2.1.2.2.1 ad co).1) = some e := hf
      rw [this]
      rfl
    have nb : ∀ l : List Nat, l.all (fun f => !(f == 1156)) = true → ∀ f a', l.contains f = true → ¬ (f = 1156 ∧ a' = yE y + 2 + e) := fun l hl f a' hf q => by
      rw [List.all_eq_true] at hl
      have := hl f (List.contains_iff_mem.mp hf)
      rw [q.1] at this; exact absurd this (by decide)
    rw [es]
    obtain ⟨⟨w1, w2, w3⟩, ⟨w4, w5⟩, w6⟩ := et2.2.1 e _ z2
    have zn : z.1.2.2.2 = none := by
      have := (qk.1.1.2.1.1 (1, ad, 0)).2.1 (show (1 : Nat) ≠ 3 by decide)
      rw [e4] at this; exact this
    rw [show ((1, ad, 0), z).2.1.2.2.2 = z.1.2.2.2 from rfl, zn] at w6
    have c2 := et2.1.2.1.1
    rw [List.length_map] at c2
    refine et2.bld (i := e) q2 (nb _ rfl) (fun g e' hg he' _ q => by have := q.2; omega) (by rw [q2.I (nb [1025] rfl _ _ rfl), List.length_set]; exact c2) (by rw [List.length_set]; exact n256) (fun e' he' _ => List.getElem?_set_ne (fun q => he' q.symm)) (fun x hx => ?_) (fun _ _ _ => rfl) (fun e' he' => et2.2.2 e' (by rw [List.length_set] at he'; exact he'))
    rw [List.getElem?_set_self el] at hx
    have hx := Option.some.inj hx
    subst hx
    obtain ⟨⟨x1, x2, x3⟩, x4⟩ := et2.1.2.2 e (1, ad, 0) (by rw [List.getElem?_map, z2]; rfl)
    refine ⟨⟨⟨by rw [q2.I (nb [1152] rfl _ _ rfl)]; exact x1, by rw [q2.J (nb [1153] rfl _ _ rfl)]; exact x2, by rw [q2.I (nb [1154] rfl _ _ rfl)]; exact x3⟩, x4⟩, ⟨by rw [q2.I (nb [1155] rfl _ _ rfl)]; exact w1.trans (by rw [hc]; rfl), b2, by rw [q2.J (nb [1157] rfl _ _ rfl)]; exact w3.trans (by rw [show (mntX a.2.2.2.2.2.1.2.2.1 ad co).2.1.2.2.1 = (vsw a.2.2.2.2.2.1.2.2.1 (1, ad, 0)).2.2.1 from rfl, e4])⟩, ⟨?_, fun k2 => absurd k2 (show (1 : Nat) ≠ 2 by decide)⟩, w6.1, by rw [q2.R (nb [1159] rfl _ _ rfl)]; exact w6.2⟩
    rw [q2.I (nb [1164] rfl _ _ rfl)]
    exact so.2.2 e (by omega)
  | none =>
    have e4 : vsw a.2.2.2.2.2.1.2.2.1 (1, ad, 0) = (false, 0, 0, none) := by
      rw [vsw_3 k1]
      unfold lfc
      rw [fidx_n hf]
    refine k_X1_mint_36 o (fun _ => ?_) (fun a ca => by cases ca)
    by_cases c256 : a.2.2.2.2.2.1.2.2.1.length = 256
    · refine k_X1_mint_43 (r5 := cE) o (fun q => absurd (by rw [c256]) q) (fun _ => ?_)
      refine k_X1_mint_56 o (k0 (fun q => ?_))
      rcases q.2.2 with z | z
      · rw [e4] at z; cases z
      · exact z c256
    refine k_X1_mint_43 (r5 := cE) o (fun _ => ?_) (fun q => absurd ((nI_eq (b := 256) (by omega) (by omega)).mp q) c256)
    refine k_X1_mint_58 (l5 := none) o (fun _ => ?_) (fun a ca => by cases ca)
    refine k_X1_mint_63 o ?_
    refine fresh_ok (p := (1, ad, 0)) t0 rE et (by omega) (by omega) (fun h1 q1 c1' ⟨p1, p2, p3⟩ pt pv ⟨pb, ps⟩ => ?_)
    refine k_X1_mint_70 o ?_
    have te := q1.1.tag (et.1.1.2 a.2.2.2.2.2.1.2.2.1.length (by omega)).2
    refine fin a.2.2.2.2.2.1.2.2.1.length h1 (by omega) q1 te (by rw [e4]; exact pb) (Or.inr c256) (fun h2 q2 b2 MA2 o2 et2 => ?_)
    have es : mntS a.2.2.2.2.2.1.2.2.1 ad co = a.2.2.2.2.2.1.2.2.1 ++ [mntX a.2.2.2.2.2.1.2.2.1 ad co] := by
      unfold mntS tk2
      rw [if_pos ⟨k1, rfl⟩]
      have : (a.2.2.2.2.2.1.2.2.1.findIdx? fun y => y.1 == (mntX a.2.2.2.2.2.1.2.2.1 ad co).1) = none := hf
      rw [this]
      rfl
    have nb : ∀ l : List Nat, l.all (fun f => !(f == 1156)) = true → ∀ f a', l.contains f = true → ¬ (f = 1156 ∧ a' = yE y + 2 + a.2.2.2.2.2.1.2.2.1.length) := fun l hl f a' hf q => by
      rw [List.all_eq_true] at hl
      have := hl f (List.contains_iff_mem.mp hf)
      rw [q.1] at this; exact absurd this (by decide)
    rw [es]
    have ll : (a.2.2.2.2.2.1.2.2.1 ++ [mntX a.2.2.2.2.2.1.2.2.1 ad co]).length = a.2.2.2.2.2.1.2.2.1.length + 1 := by simp
    have q12 : Fr (PS1 (yE y) a.2.2.2.2.2.1.2.2.1.length) h h2 := q1.1.trans (q2.mono fun f a' z => Or.inr ⟨by rw [z.1]; rfl, z.2⟩)
    refine et2.bld (i := a.2.2.2.2.2.1.2.2.1.length) q12 (PS1.no rfl) (fun g e' hg he' _ q => ?_) (by rw [q2.I (nb [1025] rfl _ _ rfl), ll]; exact c1') (by rw [ll]; omega) (fun e' he' hl => List.getElem?_append_left (by rw [ll] at hl; omega)) (fun x hx => ?_) (fun _ _ _ => rfl) (fun e' he' => et2.2.2 e' (by rw [ll] at he'; omega))
    · rcases q with q | q
      · rw [q.1] at hg; exact absurd hg (by decide)
      · have := q.2; omega
    · rw [List.getElem?_append_right (Nat.le_refl _), Nat.sub_self] at hx
      have hx : mntX a.2.2.2.2.2.1.2.2.1 ad co = x := Option.some.inj hx
      subst hx
      refine ⟨⟨⟨by rw [q2.I (nb [1152] rfl _ _ rfl)]; exact p1, by rw [q2.J (nb [1153] rfl _ _ rfl)]; exact p2, by rw [q2.I (nb [1154] rfl _ _ rfl)]; exact p3⟩, ⟨by show 1 < _; omega, by show 0 < _; omega⟩⟩, ⟨by rw [q2.I (nb [1155] rfl _ _ rfl)]; exact pt, b2, by rw [q2.J (nb [1157] rfl _ _ rfl)]; exact ps.trans (by rw [show (mntX a.2.2.2.2.2.1.2.2.1 ad co).2.1.2.2.1 = (vsw a.2.2.2.2.2.1.2.2.1 (1, ad, 0)).2.2.1 from rfl, e4])⟩, ⟨?_, fun k2 => absurd k2 (show (1 : Nat) ≠ 2 by decide)⟩, et2.2.2 _ (Nat.le_refl _), by rw [q2.R (nb [1159] rfl _ _ rfl)]; exact pv⟩
      rw [q2.I (nb [1164] rfl _ _ rfl), q1.1.I (PS1.no (l := [1164]) rfl _ _ rfl)]
      exact so.2.2 _ (by omega)
end
