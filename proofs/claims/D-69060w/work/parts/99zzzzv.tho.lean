/-! the twin's values: making, copying, adding, taking, changing -/
theorem un_tn : ∀ {c' c : LF}, fer c' = fer (tnF c) → ∃ c'', tnF c'' = c' ∧ fer c'' = fer c
  | .leaf, .leaf, _ => ⟨.leaf, rfl, rfl⟩
  | .leaf, .inner _ _ _ _ _, h => by simp [tnF, fer] at h
  | .inner _ _ _ _ _, .leaf, h => by simp [tnF, fer] at h
  | .inner k x u a r, .inner k2 y u2 b s, h => by
    have h : Std.DTreeMap.Internal.Impl.inner k x.2 () (fer a) (fer r) = .inner k2 (tn k2 y.2) () (fer (tnF b)) (fer (tnF s)) := h
    injection h with h1 h2 h3 h4 h5
    obtain ⟨a', a1, a2⟩ := un_tn h4
    obtain ⟨r', r1, r2⟩ := un_tn h5
    refine ⟨.inner k (x.1, y.2) u a' r', ?_, ?_⟩
    · show Std.DTreeMap.Internal.Impl.inner k (x.1, tn k y.2) u (tnF a') (tnF r') = .inner k x u a r
      rw [a1, r1, h1, ← h2]
    · show Std.DTreeMap.Internal.Impl.inner k y.2 () (fer a') (fer r') = .inner k2 y.2 () (fer b) (fer s)
      rw [a2, r2, h1]
theorem fbk_fer : ∀ {c : LF}, fbk (fer c) ↔ fbk c
  | .leaf => Iff.rfl
  | .inner k x u a r => by
    show k < 128 ∧ fbk (fer a) ∧ fbk (fer r) ↔ k < 128 ∧ fbk a ∧ fbk r
    rw [fbk_fer, fbk_fer]
section
variable {G : Gt} {d T n : Nat} {h : AH} {o : Lc} {K : Outcome → AH → Prop}
theorem thmake_ok {p : Sl} {kd : Nat} {x : Int64 × Int64} (v : TH h T n o) (hp : o p = none) (hn : n < 24576) (hk : kd < 128) (kk : ∀ h', Fq (FS tFl) h h' → TH h' T (n + 1) (uO o p (some (n, kd, x, .leaf))) → K (.returned (some (.int (nI n)))) h') : MW G d e_X24_make [.ref T, .int (nI kd), .long (tn kd x).1, .long (tn kd x).2] h K := by
  refine tmake_ok v.1.1 v.1.2.1 hn hk (fun h' q hz tw _ => ?_)
  exact kk h' q.1 (v.new hp q (fun a ha => Nat.le_of_eq (show n = a from ha.symm)) hz ⟨by omega, by omega⟩ tw ⟨hk, trivial⟩ (by simp [adr, fad]) (fun a ha => by
    have : a = n := by simpa [adr, fad] using ha
    omega))
theorem thcopy_ok {p r : Sl} {x y : LV} {pa : List Nat} (v : TH h T n o) (hp : o p = some x) (hy : lva x pa = some y) (hr : o r = none) (hn : n + (1 + fsz y.2.2.2) ≤ 24576) (hd : fdp y.2.2.2 + 2 ≤ d) (kk : ∀ h' w, Fq (FS tFl) h h' → TH h' T (n + (1 + fsz y.2.2.2)) (uO o r (some w)) → lvE w = lvE y → w.1 = n → K (.returned (some (.int (nI n)))) h') : MW G d e_X24_copy [.ref T, .int (nI y.1)] h K := by
  obtain ⟨g1, g2, g3⟩ := v.2.2 p x hp
  have ty := TVL.sub g1 hy
  obtain ⟨k1, k2⟩ := fbk_sub g3 hy
  have fs : fsz (tnF y.2.2.2) = fsz y.2.2.2 := fsz_tn _
  refine tcopy_ok (tnF y.2.2.2) G d T y.1 y.2.1 n (tn y.2.1 y.2.2.1) h K v.1.1 ty k1 (fbk_tn k2) v.1.2.1 (fun z hz => g2 z (adr_in hy z (by rw [fad_tn] at hz; exact hz))) (by rw [fs]; exact hn) (by rw [fdp_tn]; exact hd) (fun h' c' q hz tw fe ad nd => ?_)
  rw [fs] at q hz ad
  obtain ⟨c2, e1, e2⟩ := un_tn fe
  have fb : fbk c2 := by rw [← fbk_fer, e2, fbk_fer]; exact k2
  have ad2 : fad c2 = fad c' := by rw [← e1, fad_tn]
  refine kk h' (n, y.2.1, y.2.2.1, c2) q.1 (v.new hr q (fun a ha => ha.1) hz ⟨by omega, by omega⟩ ?_ ⟨k1, fb⟩ ?_ (fun a ha => ?_)) ?_ rfl
  · show TW h' T n y.2.1 (tn y.2.1 y.2.2.1) (tnF c2)
    rw [e1]; exact tw
  · show (n :: fad c2).Nodup
    rw [ad2, List.nodup_cons]
    exact ⟨fun z => by have := ad n z; omega, nd⟩
  · have ha : a ∈ n :: fad c2 := ha
    rw [ad2, List.mem_cons] at ha
    rcases ha with e | e
    · omega
    · have := ad a e; omega
  · show (y.2.1, y.2.2.1, fer c2) = (y.2.1, y.2.2.1, fer y.2.2.2)
    rw [e2]
theorem tnF_lof1 {c : LF} {w : LV} : tnF (lof (llo c ++ [w])) = fap (tnF c) (.inner w.2.1 (w.1, tn w.2.1 w.2.2.1) () (tnF w.2.2.2) .leaf) := by
  rw [lof_ap, lof_llo, tnF_ap]; rfl
theorem thadd_ok {p r : Sl} {x y w : LV} {pa : List Nat} (v : TH h T n o) (hp : o p = some x) (hy : lva x pa = some y) (hr : o r = some w) (hpr : p ≠ r) (kk : ∀ h', Fq (FS tFl) h h' → TH h' T n (uO (uO o r none) p (some (lvw x pa (y.1, y.2.1, y.2.2.1, lof (llo y.2.2.2 ++ [w]))))) → K (.returned none) h') : MW G d e_X24_add [.ref T, .int (nI y.1), .int (nI w.1)] h K := by
  obtain ⟨⟨v1, v2, v3⟩, v4, v5⟩ := id v
  obtain ⟨g1, g2, g3⟩ := v5 p x hp
  obtain ⟨f1, f2, f3⟩ := v5 r w hr
  have ndx := v4.1 p x hp
  have ndw := v4.1 r w hr
  have ndy := ndp hy ndx
  have yin := adr_in hy
  have dis : ∀ a ∈ adr x, a ∉ adr w := v4.2 p r x w hpr hp hr
  have ndy' : (y.1 :: fad y.2.2.2).Nodup := ndy
  have ndw' : (w.1 :: fad w.2.2.2).Nodup := ndw
  have nd2 : (y.1 :: (fad (tnF y.2.2.2) ++ w.1 :: fad (tnF w.2.2.2))).Nodup := by
    rw [fad_tn, fad_tn]
    have : y.1 :: (fad y.2.2.2 ++ w.1 :: fad w.2.2.2) = (y.1 :: fad y.2.2.2) ++ (w.1 :: fad w.2.2.2) := rfl
    rw [this, List.nodup_append]
    exact ⟨ndy', ndw', fun a ha b hb e => dis a (yin a ha) (by rw [e]; exact hb)⟩
  refine taddX_ok v1 (TVL.sub g1 hy) f1 nd2 (fun h' q hz tw nx => ?_)
  have aw : adr ((y.1, y.2.1, y.2.2.1, lof (llo y.2.2.2 ++ [w])) : LV) = adr y ++ adr w := by
    show y.1 :: fad (lof (llo y.2.2.2 ++ [w])) = (y.1 :: fad y.2.2.2) ++ adr w
    rw [fad_lof, List.flatMap_append, ← fad_llo]
    simp
  have nw : (adr ((y.1, y.2.1, y.2.2.1, lof (llo y.2.2.2 ++ [w])) : LV)).Nodup := by
    rw [aw, List.nodup_append]
    exact ⟨ndy, ndw, fun a ha b hb e => dis a (yin a ha) (by rw [e]; exact hb)⟩
  obtain ⟨s1, s2⟩ := adr_nd (w := (y.1, y.2.1, y.2.2.1, lof (llo y.2.2.2 ++ [w]))) hy ndx nw fun a ha => by
    rw [aw] at ha
    rcases List.mem_append.mp ha with z | z
    · exact Or.inl z
    · exact Or.inr fun z2 => dis a z2 z
  have sx : ∀ a ∈ adr (lvw x pa (y.1, y.2.1, y.2.2.1, lof (llo y.2.2.2 ++ [w]))), a ∈ adr x ∨ a ∈ adr w := fun a ha => by
    rcases (s2 a).mp ha with z | z
    · exact Or.inl z.1
    · rw [aw] at z
      rcases List.mem_append.mp z with z | z
      · exact Or.inl (yin a z)
      · exact Or.inr z
  have tw' : TVL h' T (y.1, y.2.1, y.2.2.1, lof (llo y.2.2.2 ++ [w])) := by
    show TW h' T y.1 y.2.1 (tn y.2.1 y.2.2.1) (tnF (lof (llo y.2.2.2 ++ [w])))
    rw [tnF_lof1]; exact tw
  have kn : y.2.1 < 128 ∧ fbk (lof (llo y.2.2.2 ++ [w])) := ⟨(fbk_sub g3 hy).1, fbk_llo.mpr fun z hz => by
    rw [llo_lof] at hz
    rcases List.mem_append.mp hz with e | e
    · exact fbk_llo.mp (fbk_sub g3 hy).2 z e
    · rw [List.mem_singleton] at e
      rw [e]; exact f3⟩
  refine kk h' q.1 ⟨⟨v1.fs q.1.1 rfl, by rw [hz]; exact v2, v3⟩, (v4.del r).put s1 fun u c hu hc a ha ha2 => ?_, fun u c hc => ?_⟩
  · by_cases e : u = r
    · rw [e, uO_s] at hc; cases hc
    · rw [uO_n e] at hc
      rcases sx a ha with z | z
      · exact v4.2 u p c x hu hc hp a ha2 z
      · exact v4.2 u r c w e hc hr a ha2 z
  · by_cases e : u = p
    · rw [e, uO_s] at hc
      cases hc
      refine ⟨TVL.set q g1 hy rfl tw' nx ndx (fun a ha hay z => ?_), fun a ha => ?_, fbk_set g3 hy kn⟩
      · rcases z with z | z | z
        · exact hay (by rw [z]; exact adr_1 y)
        · exact dis a ha (by rw [z]; exact adr_1 w)
        · rw [fad_tn] at z; exact hay (adr_2 z)
      · rcases sx a ha with z | z
        · exact g2 a z
        · exact f2 a z
    · rw [uO_n e] at hc
      by_cases e2 : u = r
      · rw [e2, uO_s] at hc; cases hc
      · rw [uO_n e2] at hc
        obtain ⟨c1, c2, c3⟩ := v5 u c hc
        refine ⟨c1.tu q (fun b hb z => ?_), c2, c3⟩
        rcases z with z | z | z
        · exact v4.2 u p c x e hc hp b hb (by rw [z]; exact yin _ (adr_1 y))
        · exact v4.2 u r c w e2 hc hr b hb (by rw [z]; exact adr_1 w)
        · rw [fad_tn] at z; exact v4.2 u p c x e hc hp b hb (yin _ (adr_2 z))
theorem thlast_ok {p r : Sl} {x y w : LV} {pa : List Nat} {c0 : List LV} (v : TH h T n o) (hp : o p = some x) (hy : lva x pa = some y) (hc : llo y.2.2.2 = c0 ++ [w]) (hr : o r = none) (kk : ∀ h', Fq (FS tFl) h h' → TH h' T n (uO (uO o p (some (lvw x pa (y.1, y.2.1, y.2.2.1, lof c0)))) r (some w)) → K (.returned (some (.int (nI w.1)))) h') : MW G d e_X24_takeLast [.ref T, .int (nI y.1)] h K := by
  obtain ⟨⟨v1, v2, v3⟩, v4, v5⟩ := id v
  obtain ⟨g1, g2, g3⟩ := v5 p x hp
  have hpr : p ≠ r := fun e => by rw [e, hr] at hp; cases hp
  have ndx := v4.1 p x hp
  have ndy := ndp hy ndx
  have yin := adr_in hy
  have ec : y.2.2.2 = lof (llo (lof c0) ++ [w]) := by rw [llo_lof, ← hc, lof_llo]
  have ay : adr y = adr ((y.1, y.2.1, y.2.2.1, lof c0) : LV) ++ adr w := by
    show y.1 :: fad y.2.2.2 = (y.1 :: fad (lof c0)) ++ adr w
    rw [fad_llo, hc, List.flatMap_append, fad_lof]
    simp
  have ndy2 := ndy
  rw [ay, List.nodup_append] at ndy2
  obtain ⟨nd0, ndw, ndd⟩ := ndy2
  have ty := TVL.sub g1 hy
  have ty' : TW h T y.1 y.2.1 (tn y.2.1 y.2.2.1) (fap (tnF (lof c0)) (.inner w.2.1 (w.1, tn w.2.1 w.2.2.1) () (tnF w.2.2.2) .leaf)) := by
    rw [← tnF_lof1, ← ec]; exact ty
  have nd2 : (y.1 :: (fad (tnF (lof c0)) ++ w.1 :: fad (tnF w.2.2.2))).Nodup := by
    rw [fad_tn, fad_tn]
    have : y.1 :: (fad (lof c0) ++ w.1 :: fad w.2.2.2) = adr ((y.1, y.2.1, y.2.2.1, lof c0) : LV) ++ adr w := rfl
    rw [this, ← ay]; exact ndy
  refine ttakeX_ok v1 ty' nd2 (fun h' q hz tw tb nx => ?_)
  have haw : ∀ a ∈ adr ((y.1, y.2.1, y.2.2.1, lof c0) : LV), a ∈ adr y := fun a ha => by rw [ay]; exact List.mem_append_left _ ha
  have hww : ∀ a ∈ adr w, a ∈ adr y := fun a ha => by rw [ay]; exact List.mem_append_right _ ha
  obtain ⟨s1, s2⟩ := adr_nd (w := (y.1, y.2.1, y.2.2.1, lof c0)) hy ndx nd0 fun a ha => Or.inl (haw a ha)
  have sx : ∀ a ∈ adr (lvw x pa (y.1, y.2.1, y.2.2.1, lof c0)), a ∈ adr x ∧ a ∉ adr w := fun a ha => by
    rcases (s2 a).mp ha with z | z
    · exact ⟨z.1, fun z2 => z.2 (hww a z2)⟩
    · exact ⟨yin a (haw a z), fun z2 => ndd a z a z2 rfl⟩
  have kys := fbk_sub g3 hy
  have kal : ∀ z ∈ c0 ++ [w], z.2.1 < 128 ∧ fbk z.2.2.2 := fun z hz => fbk_llo.mp kys.2 z (by rw [hc]; exact hz)
  have k0 : y.2.1 < 128 ∧ fbk (lof c0) := ⟨kys.1, fbk_llo.mpr fun z hz => by rw [llo_lof] at hz; exact kal z (List.mem_append_left _ hz)⟩
  have dj1 : DJ (uO o p (some (lvw x pa (y.1, y.2.1, y.2.2.1, lof c0)))) := v4.put s1 fun u c hu hc a ha ha2 => v4.2 u p c x hu hc hp a ha2 (sx a ha).1
  refine kk h' q.1 ⟨⟨v1.fs q.1.1 rfl, by rw [hz]; exact v2, v3⟩, dj1.put ndw fun u c hu hc a ha ha2 => ?_, fun u c hc => ?_⟩
  · by_cases e : u = p
    · rw [e, uO_s] at hc
      cases hc
      exact (sx a ha2).2 ha
    · rw [uO_n e] at hc
      exact v4.2 u p c x e hc hp a ha2 (yin a (hww a ha))
  · by_cases e : u = r
    · rw [e, uO_s] at hc
      cases hc
      exact ⟨tb, fun a ha => g2 a (yin a (hww a ha)), kal w (List.mem_append_right _ (List.mem_singleton.mpr rfl))⟩
    · rw [uO_n e] at hc
      by_cases e2 : u = p
      · rw [e2, uO_s] at hc
        cases hc
        refine ⟨TVL.set q g1 hy rfl tw nx ndx (fun a ha hay z => ?_), fun a ha => g2 a (sx a ha).1, fbk_set g3 hy k0⟩
        rcases z with z | z
        · exact hay (by rw [z]; exact adr_1 y)
        · rw [fad_tn] at z; exact hay (haw a (List.mem_cons_of_mem _ z))
      · rw [uO_n e2] at hc
        obtain ⟨c1, c2, c3⟩ := v5 u c hc
        refine ⟨c1.tu q (fun b hb z => ?_), c2, c3⟩
        rcases z with z | z
        · exact v4.2 u p c x e2 hc hp b hb (by rw [z]; exact yin _ (adr_1 y))
        · rw [fad_tn] at z; exact v4.2 u p c x e2 hc hp b hb (yin b (haw b (List.mem_cons_of_mem _ z)))
theorem thbec_ok {p r : Sl} {x y w : LV} {pa : List Nat} (v : TH h T n o) (hp : o p = some x) (hy : lva x pa = some y) (hr : o r = some w) (hpr : p ≠ r) (kk : ∀ h', Fq (FS tFl) h h' → TH h' T n (uO (uO o r none) p (some (lvw x pa (y.1, w.2)))) → K (.returned none) h') : MW G d e_X24_become [.ref T, .int (nI y.1), .int (nI w.1)] h K := by
  obtain ⟨⟨v1, v2, v3⟩, v4, v5⟩ := id v
  obtain ⟨g1, g2, g3⟩ := v5 p x hp
  obtain ⟨f1, f2, f3⟩ := v5 r w hr
  have ndx := v4.1 p x hp
  have ndw := v4.1 r w hr
  have ndw' : (w.1 :: fad w.2.2.2).Nodup := ndw
  have yin := adr_in hy
  have dis : ∀ a ∈ adr x, a ∉ adr w := v4.2 p r x w hpr hp hr
  have y1w : y.1 ∉ fad w.2.2.2 := fun z => dis _ (yin _ (adr_1 y)) (adr_2 z)
  refine tbecX_ok v1 (TVL.sub g1 hy) f1 f3.1 (by rw [fad_tn]; exact y1w) (fun h' q hz tw nx => ?_)
  have nw : (adr ((y.1, w.2) : LV)).Nodup := by
    show (y.1 :: fad w.2.2.2).Nodup
    rw [List.nodup_cons]
    exact ⟨y1w, (List.nodup_cons.mp ndw').2⟩
  obtain ⟨s1, s2⟩ := adr_nd (w := (y.1, w.2)) hy ndx nw fun a ha => by
    rcases List.mem_cons.mp (show a ∈ y.1 :: fad w.2.2.2 from ha) with z | z
    · exact Or.inl (by rw [z]; exact adr_1 y)
    · exact Or.inr fun z2 => dis a z2 (adr_2 z)
  have sx : ∀ a ∈ adr (lvw x pa (y.1, w.2)), a ∈ adr x ∨ a ∈ adr w := fun a ha => by
    rcases (s2 a).mp ha with z | z
    · exact Or.inl z.1
    · rcases List.mem_cons.mp (show a ∈ y.1 :: fad w.2.2.2 from z) with z | z
      · exact Or.inl (by rw [z]; exact yin _ (adr_1 y))
      · exact Or.inr (adr_2 z)
  refine kk h' q.1 ⟨⟨v1.fs q.1.1 rfl, by rw [hz]; exact v2, v3⟩, (v4.del r).put s1 fun u c hu hc a ha ha2 => ?_, fun u c hc => ?_⟩
  · by_cases e : u = r
    · rw [e, uO_s] at hc; cases hc
    · rw [uO_n e] at hc
      rcases sx a ha with z | z
      · exact v4.2 u p c x hu hc hp a ha2 z
      · exact v4.2 u r c w e hc hr a ha2 z
  · by_cases e : u = p
    · rw [e, uO_s] at hc
      cases hc
      refine ⟨TVL.set q g1 hy rfl tw nx ndx (fun a ha hay z => hay (by rw [show a = y.1 from z]; exact adr_1 y)), fun a ha => ?_, fbk_set g3 hy f3⟩
      rcases sx a ha with z | z
      · exact g2 a z
      · exact f2 a z
    · rw [uO_n e] at hc
      by_cases e2 : u = r
      · rw [e2, uO_s] at hc; cases hc
      · rw [uO_n e2] at hc
        obtain ⟨c1, c2, c3⟩ := v5 u c hc
        exact ⟨c1.tu q (fun b hb z => v4.2 u p c x e hc hp b hb (by rw [show b = y.1 from z]; exact yin _ (adr_1 y))), c2, c3⟩
end
