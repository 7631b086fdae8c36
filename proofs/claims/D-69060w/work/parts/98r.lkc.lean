/-! the twin's looker: resources -/
def resR (m : Md) (lt : List Ty) (o k : Nat) (x : Ts) : Except Nat Ts :=
  if o = 47 then fgt x
  else if o = 48 then eb (fN (fun x => !liv lt x.2.1 x.2.2 (2 ^ (48 + k % 15)) 0) 6 x) fun x => eb (fPt [6, k] (0, false) x) fgt
  else if o = 49 then eb (fPt [1] (0, false) x) fgt
  else eb (fN (fun x => !liv lt x.2.1 x.2.2 (2 ^ (48 + k % 15)) (if o = 50 then 1 else 0)) 6 x) fun x => eb (fPt [if o = 50 then 8 else 9, 6, k] (2 ^ (48 + k % 15), false) x) fgt
theorem cRes_e {m : Md} {u : Ux} {lt : List Ty} {o k : Nat} (x : Ts) : cO (cRes m u lt o k) x = eb (fTT (if o = 47 then [6, k] else [5]) x) fun x => eb (fN (fun _ => hsR u.1) 15 x) fun x => eb (fN (fun _ => hsA m [6, k] 8) 4 x) fun x => resR m lt o k x := by
  obtain ⟨p, s, l⟩ := x
  unfold cO cRes fTT
  cases tkT (if o = 47 then [6, k] else [5]) s with
  | error w => rfl
  | ok r =>
    simp only [eb_k]
    unfold fN
    cases hsR u.1 <;> simp only [neT, neF, eb_k, eb_e]
    cases hsA m [6, k] 8 <;> simp only [neT, neF, eb_k, eb_e]
    unfold resR
    by_cases c1 : o = 47
    · rw [if_pos c1, if_pos c1]; rfl
    rw [if_neg c1, if_neg c1]
    by_cases c2 : o = 48
    · rw [if_pos c2, if_pos c2]
      unfold fN fPt
      simp only [ogr_0]
      cases (!liv lt r.2 l (2 ^ (48 + k % 15)) 0) <;> simp only [neT, neF, eb_k, eb_e]
      cases pt [6, k] (0, false) r.2 <;> rfl
    rw [if_neg c2, if_neg c2]
    by_cases c3 : o = 49
    · rw [if_pos c3, if_pos c3]
      unfold fPt
      simp only [ogr_0]
      cases pt [1] (0, false) r.2 <;> rfl
    rw [if_neg c3, if_neg c3]
    unfold fN fPt
    rw [ogr_r (by split <;> simp)]
    simp only
    cases (!liv lt r.2 l (2 ^ (48 + k % 15)) (if o = 50 then 1 else 0)) <;> simp only [neT, neF, eb_k, eb_e]
    cases pt [if o = 50 then 8 else 9, 6, k] (2 ^ (48 + k % 15), false) r.2 <;> rfl
theorem tyr {m : Md} {k b : Nat} (hk : k < nst m) (h64 : nst m ≤ 64) (hb : b = 8 ∨ b = 9) : tOK m [b, 6, k] := by
  refine fT.ref (t := [6, k]) ⟨(tOK.st hk h64).1, rfl, by simp [nve], (tOK.st hk h64).2.2⟩ hb
theorem nI_rem {a b : Nat} (ha : a < 65536) (hb : 0 < b) (hb' : b < 65536) : nI a - nI a / nI b * nI b = nI (a % b) := by
  rw [nI_div (by omega) hb (by omega), nI_mul, nI_sub (Nat.div_mul_le_self a b), Nat.mod_eq_sub_div_mul]
theorem bit4 {a : Nat} (h : a ≤ 15) (k : Nat) (hk : k ≤ 15) : (nI a &&& nI k) = 0 ↔ (a &&& k) = 0 := by
  rw [nI_and (by omega) (by omega)]
  have : a &&& k ≤ a := Nat.and_le_left
  exact nI_eq (b := 0) (by omega) (by omega)
theorem lres_ok {G : Gt} {d : Nat} {h : AH} {K : Outcome → AH → Prop} {O U n f a op : Nat} {B : Nat → Nat} {m : Md} {u : Ux} {e : Except Nat Ts} (hs : LC h O U n B m f u) (g : gM m) (hr : TRs h O m (lty u) e) (ho : 47 ≤ op ∧ op ≤ 51) (ha : a < m.2.1.length) (hd : 4 ≤ d) (kk : ∀ h', Fq (FS trF) h h' → TRs h' O m (lty u) (eb e (cO (cRes m u (lty u) op a))) → K (.returned none) h') : MW G d e_X25_onResource [.ref O, .int (nI op), .int (nI a)] h K := by
  refine st_X25_onResource fun X o hG hD _ => ?_
  subst hG; subst hD
  have s0 := hs.1.1.1
  have h64 := g.2.2.2.2.2.1
  have ha' : a < nst m := by unfold nst; omega
  have hTs := tOK.st ha' h64
  have hu' := g.2.2.2.2.1 u (List.mem_of_getElem? hs.2.1.1)
  have hu := hu'.2
  have t5 : tOK m [5] := tOK.pr (by omega) (by omega)
  have t1 : tOK m [1] := tOK.pr (by omega) (by omega)
  have h15 : 48 + a % 15 < 63 := by omega
  have ff15 : nI 48 + (nI a - nI a / nI 15 * nI 15) = nI (48 + a % 15) := by rw [nI_rem (by omega) (by omega) (by omega), nI_add]
  have nz15 : ¬ nI 15 = 0 := by decide
  have ee : eb e (cO (cRes m u (lty u) op a)) = eb (eb (eb (eb e (fTT (if op = 47 then [6, a] else [5]))) (fN (fun _ => hsR u.1) 15)) (fN (fun _ => hsA m [6, a] 8) 4)) (resR m (lty u) op a) := by
    rw [eb_a, eb_a, eb_a]; exact eb_c cRes_e
  rw [ee] at kk
  refine k_X25_onResource_0 o ?_
  refine lstr_ok (by omega) ?_
  -- behind the taking
  have main : ∀ h1, Fq (FS tkG) h h1 → TRs h1 O m (lty u) (eb e (fTT (if op = 47 then [6, a] else [5]))) → V X K 35 [.ref O, .int (nI op), .int (nI a), .long (lN (tyc [6, a])), nov, .int (nI (48 + a % 15))] [] h1 := by
    intro h1 f1 r1
    generalize hE1 : eb e (fTT (if op = 47 then [6, a] else [5])) = E1 at *
    have l1 : LC h1 O U n B m f u := hs.fr f1.1 (FS.no rfl)
    have s1 := l1.1.1.1
    have r2 := l1.1.2.1
    have u0 := l1.1.2.2.1.1.1
    have v2 := l1.2.1.2.1
    have hf : f < m.2.2.2.2.2.length + m.2.2.2.1.length := by have := get_lt hs.2.1.1; omega
    have efl : fgs m f = u.1 := by unfold fgs; rw [if_pos (get_lt hs.2.1.1), hs.2.1.1]
    refine k_X25_onResource_35 o ?_
    refine uflg_ok l1.1.2.2.1 l1.1.2.2.2 hf (by omega) ?_
    rw [efl]
    have n1 : ∀ b, b = hsR u.1 → V X K 57 [.ref O, .int (nI op), .int (nI a), .long (lN (tyc [6, a])), nov, .int (nI (48 + a % 15))] [.int (bI b), .ref O] h1 := by
      intro b hb
      refine k_X25_onResource_57 o ?_
      refine lnee_ok (b := fun _ => hsR u.1) s1 r1 (fun _ _ => by rw [hb]) (by decide) (by omega) fun h2 f2 r3 => ?_
      generalize hE2 : eb E1 (fN (fun _ => hsR u.1) 15) = E2 at *
      have l2 : LC h2 O U n B m f u := l1.fr f2.1 (FS.no rfl)
      have s2 := l2.1.1.1
      have r4 := l2.1.2.1
      have u0 := l2.1.2.2.1.1.1
      refine k_X25_onResource_62 o ?_
      refine uabl_ok l2.1.2.2.1 l2.1.2.2.2 ha' (by omega) ?_
      have hsb := sab_le g.1.1 g.1.2 a
      have n2 : ∀ b, b = hsA m [6, a] 8 → V X K 82 [.ref O, .int (nI op), .int (nI a), .long (lN (tyc [6, a])), nov, .int (nI (48 + a % 15))] [.int (bI b), .ref O] h2 := by
        intro b hb
        refine k_X25_onResource_82 o ?_
        refine lnee_ok (b := fun _ => hsA m [6, a] 8) s2 r3 (fun _ _ => by rw [hb]) (by decide) (by omega) fun h3 f3 r5 => ?_
        generalize hE3 : eb E2 (fN (fun _ => hsA m [6, a] 8) 4) = E3 at *
        have l3 : LC h3 O U n B m f u := l2.fr f3.1 (FS.no rfl)
        have s3 := l3.1.1.1
        have ff3 := ((f1.mono (FS.mono (l' := trF) rfl)).trans (f2.mono (FS.mono (l' := trF) rfl))).trans (f3.mono (FS.mono (l' := trF) rfl))
        cases E3 with
        | error w =>
          obtain ⟨z1, z2, -⟩ := id (r5 : TBd h3 O w)
          refine k_X25_onResource_86 o (fun c => absurd c (nI_nz z2)) (fun _ => ?_)
          refine k_X25_onResource_93 o ?_
          exact kk h3 ff3 r5
        | ok x =>
          have z1 := (r5 : TGd h3 O m _ x).1
          rw [eb_k] at kk
          refine k_X25_onResource_86 o (fun _ => ?_) (fun c => absurd rfl c)
          have pw : 2 ^ (48 + a % 15) < 9223372036854775808 := by
            have : (2 : Nat) ^ (48 + a % 15) < 2 ^ 63 := Nat.pow_lt_pow_right (by omega) (by omega)
            omega
          unfold resR at kk
          rcases (show op = 47 ∨ op = 48 ∨ op = 49 ∨ op = 50 ∨ op = 51 by omega) with z | z | z | z | z <;> subst z
          · rw [if_pos rfl] at kk
            refine k_X25_onResource_94 o (fun c => absurd c (by decide)) (fun _ => ?_)
            refine k_X25_onResource_100 o (fun _ => ?_) (fun c => absurd c (by decide))
            refine k_X25_onResource_127 o (fun _ => ?_) (fun c => absurd c (by decide))
            refine k_X25_onResource_154 o (fun _ => ?_) (fun c => absurd c (by decide))
            refine k_X25_onResource_165 o (fun _ => ?_) (fun c => absurd c (by decide))
            refine k_X25_onResource_176 o (fun _ => ?_) (fun c => absurd (show nI 47 ≤ nI 49 by decide) c)
            refine k_X25_onResource_208 o ?_
            exact kk h3 ff3 r5.fg
          · rw [if_neg (by decide), if_pos rfl] at kk
            refine k_X25_onResource_94 o (fun _ => ?_) (fun c => absurd rfl c)
            refine k_X25_onResource_106 o ?_
            refine lptd_ok (w := false) l3 hu r5 h15 (by omega) fun b hb => ?_
            rw [if_neg (by decide)] at hb
            have n3 : ∀ v : Int32, (∀ x', (Except.ok x : Except Nat Ts) = .ok x' → v = bI (!liv (lty u) x'.2.1 x'.2.2 (2 ^ (48 + a % 15)) 0)) → V X K 122 [.ref O, .int (nI 48), .int (nI a), .long (lN (tyc [6, a])), nov, .int (nI (48 + a % 15))] [.int v, .ref O] h3 := by
              intro v hv
              refine k_X25_onResource_122 o ?_
              refine lnee_ok (e := .ok x) (b := fun x => !liv (lty u) x.2.1 x.2.2 (2 ^ (48 + a % 15)) 0) s3 r5 hv (by decide) (by omega) fun h4 f4 r6 => ?_
              have l4 : LC h4 O U n B m f u := l3.fr f4.1 (FS.no rfl)
              have s4 := l4.1.1.1
              refine k_X25_onResource_127 o (fun _ => ?_) (fun c => absurd c (by decide))
              refine k_X25_onResource_154 o (fun c => absurd rfl c) (fun _ => ?_)
              refine k_X25_onResource_160 o ?_
              refine lgive_ok (t := [6, a]) l4.1.1 r6 (fun _ _ => ⟨rfl, hTs⟩) (by omega) fun h5 f5 r7 => ?_
              refine k_X25_onResource_165 o (fun _ => ?_) (fun c => absurd c (by decide))
              refine k_X25_onResource_176 o (fun _ => ?_) (fun c => absurd (show nI 48 ≤ nI 49 by decide) c)
              refine k_X25_onResource_208 o ?_
              refine kk h5 ((ff3.trans (f4.mono (FS.mono rfl))).trans (f5.mono (FS.mono rfl))) ?_
              rw [← eb_a]
              exact r7.fg
            cases b with
            | true =>
              refine k_X25_onResource_114 o (fun _ => ?_) (fun c => absurd (show bI true = 0 from c) (by decide))
              refine k_X25_onResource_121 o ?_
              exact n3 _ fun x' hx' => by rw [← hb x' hx']; rfl
            | false =>
              refine k_X25_onResource_114 o (fun c => absurd rfl c) (fun _ => ?_)
              refine k_X25_onResource_117 o ?_
              exact n3 _ fun x' hx' => by rw [← hb x' hx']; rfl
          · rw [if_neg (by decide), if_neg (by decide), if_pos rfl] at kk
            refine k_X25_onResource_94 o (fun c => absurd c (by decide)) (fun _ => ?_)
            refine k_X25_onResource_100 o (fun _ => ?_) (fun c => absurd c (by decide))
            refine k_X25_onResource_127 o (fun _ => ?_) (fun c => absurd c (by decide))
            refine k_X25_onResource_154 o (fun _ => ?_) (fun c => absurd c (by decide))
            refine k_X25_onResource_165 o (fun c => absurd rfl c) (fun _ => ?_)
            refine k_X25_onResource_171 o ?_
            refine lgive_ok (t := [1]) l3.1.1 r5 (fun _ _ => ⟨rfl, t1⟩) (by omega) fun h5 f5 r7 => ?_
            refine k_X25_onResource_176 o (fun _ => ?_) (fun c => absurd (show nI 49 ≤ nI 49 by decide) c)
            refine k_X25_onResource_208 o ?_
            refine kk h5 (ff3.trans (f5.mono (FS.mono rfl))) ?_
            exact r7.fg
          · rw [if_neg (by decide), if_neg (by decide), if_neg (by decide), if_pos rfl, if_pos rfl] at kk
            refine k_X25_onResource_94 o (fun c => absurd c (by decide)) (fun _ => ?_)
            refine k_X25_onResource_100 o (fun _ => ?_) (fun c => absurd c (by decide))
            refine k_X25_onResource_127 o (fun c => absurd rfl c) (fun _ => ?_)
            refine k_X25_onResource_133 o ?_
            refine lptd_ok (w := true) l3 hu r5 h15 (by omega) fun b hb => ?_
            rw [if_pos rfl] at hb
            have n3 : ∀ v : Int32, (∀ x', (Except.ok x : Except Nat Ts) = .ok x' → v = bI (!liv (lty u) x'.2.1 x'.2.2 (2 ^ (48 + a % 15)) 1)) → V X K 149 [.ref O, .int (nI 50), .int (nI a), .long (lN (tyc [6, a])), nov, .int (nI (48 + a % 15))] [.int v, .ref O] h3 := by
              intro v hv
              refine k_X25_onResource_149 o ?_
              refine lnee_ok (e := .ok x) (b := fun x => !liv (lty u) x.2.1 x.2.2 (2 ^ (48 + a % 15)) 1) s3 r5 hv (by decide) (by omega) fun h4 f4 r6 => ?_
              have l4 : LC h4 O U n B m f u := l3.fr f4.1 (FS.no rfl)
              have s4 := l4.1.1.1
              refine k_X25_onResource_154 o (fun _ => ?_) (fun c => absurd c (by decide))
              refine k_X25_onResource_165 o (fun _ => ?_) (fun c => absurd c (by decide))
              refine k_X25_onResource_176 o (fun c => absurd (show nI 50 ≤ nI 49 from c) (by decide)) (fun _ => ?_)
              refine k_X25_onResource_182 o (fun c => absurd rfl c) (fun _ => ?_)
              refine k_X25_onResource_189 o ?_
              refine k_X25_onResource_196 o ?_
              refine lbef_ok (c := 8) hTs.tv.1 hTs.tv.2 (by omega) (by omega) ?_
              refine k_X25_onResource_200 o ?_
              rw [lN_pw h15]
              refine lpush_ok (t := [8, 6, a]) (og := (2 ^ (48 + a % 15), false)) l4.1.1 r6 (fun _ _ => ⟨rfl, rfl, rfl, tyr ha' h64 (Or.inl rfl), pw⟩) (by omega) fun h5 f5 r7 => ?_
              refine k_X25_onResource_208 o ?_
              refine kk h5 ((ff3.trans (f4.mono (FS.mono rfl))).trans (f5.mono (FS.mono rfl))) ?_
              rw [← eb_a]
              exact r7.fg
            cases b with
            | true =>
              refine k_X25_onResource_141 o (fun _ => ?_) (fun c => absurd (show bI true = 0 from c) (by decide))
              refine k_X25_onResource_148 o ?_
              exact n3 _ fun x' hx' => by rw [← hb x' hx']; rfl
            | false =>
              refine k_X25_onResource_141 o (fun c => absurd rfl c) (fun _ => ?_)
              refine k_X25_onResource_144 o ?_
              exact n3 _ fun x' hx' => by rw [← hb x' hx']; rfl
          · rw [if_neg (by decide), if_neg (by decide), if_neg (by decide), if_neg (by decide), if_neg (by decide)] at kk
            refine k_X25_onResource_94 o (fun c => absurd c (by decide)) (fun _ => ?_)
            refine k_X25_onResource_100 o (fun c => absurd rfl c) (fun _ => ?_)
            refine k_X25_onResource_106 o ?_
            refine lptd_ok (w := false) l3 hu r5 h15 (by omega) fun b hb => ?_
            rw [if_neg (by decide)] at hb
            have n3 : ∀ v : Int32, (∀ x', (Except.ok x : Except Nat Ts) = .ok x' → v = bI (!liv (lty u) x'.2.1 x'.2.2 (2 ^ (48 + a % 15)) 0)) → V X K 122 [.ref O, .int (nI 51), .int (nI a), .long (lN (tyc [6, a])), nov, .int (nI (48 + a % 15))] [.int v, .ref O] h3 := by
              intro v hv
              refine k_X25_onResource_122 o ?_
              refine lnee_ok (e := .ok x) (b := fun x => !liv (lty u) x.2.1 x.2.2 (2 ^ (48 + a % 15)) 0) s3 r5 hv (by decide) (by omega) fun h4 f4 r6 => ?_
              have l4 : LC h4 O U n B m f u := l3.fr f4.1 (FS.no rfl)
              have s4 := l4.1.1.1
              refine k_X25_onResource_127 o (fun _ => ?_) (fun c => absurd c (by decide))
              refine k_X25_onResource_154 o (fun _ => ?_) (fun c => absurd c (by decide))
              refine k_X25_onResource_165 o (fun _ => ?_) (fun c => absurd c (by decide))
              refine k_X25_onResource_176 o (fun c => absurd (show nI 51 ≤ nI 49 from c) (by decide)) (fun _ => ?_)
              refine k_X25_onResource_182 o (fun _ => ?_) (fun c => absurd c (by decide))
              refine k_X25_onResource_194 o ?_
              refine k_X25_onResource_196 o ?_
              refine lbef_ok (c := 9) hTs.tv.1 hTs.tv.2 (by omega) (by omega) ?_
              refine k_X25_onResource_200 o ?_
              rw [lN_pw h15]
              refine lpush_ok (t := [9, 6, a]) (og := (2 ^ (48 + a % 15), false)) l4.1.1 r6 (fun _ _ => ⟨rfl, rfl, rfl, tyr ha' h64 (Or.inr rfl), pw⟩) (by omega) fun h5 f5 r7 => ?_
              refine k_X25_onResource_208 o ?_
              refine kk h5 ((ff3.trans (f4.mono (FS.mono rfl))).trans (f5.mono (FS.mono rfl))) ?_
              rw [← eb_a]
              exact r7.fg
            cases b with
            | true =>
              refine k_X25_onResource_114 o (fun _ => ?_) (fun c => absurd (show bI true = 0 from c) (by decide))
              refine k_X25_onResource_121 o ?_
              exact n3 _ fun x' hx' => by rw [← hb x' hx']; rfl
            | false =>
              refine k_X25_onResource_114 o (fun c => absurd rfl c) (fun _ => ?_)
              refine k_X25_onResource_117 o ?_
              exact n3 _ fun x' hx' => by rw [← hb x' hx']; rfl
      have eA : hsA m [6, a] 8 = (sab m a &&& 8 != 0) := rfl
      refine k_X25_onResource_71 o (fun c => ?_) (fun c => ?_)
      · have c := (bit4 hsb 8 (by omega)).mp c
        refine k_X25_onResource_81 o ?_
        exact n2 false (by rw [eA, c]; rfl)
      · have c : ¬ sab m a &&& 8 = 0 := fun z => c ((bit4 hsb 8 (by omega)).mpr z)
        refine k_X25_onResource_77 o ?_
        exact n2 true (by rw [eA]; simp [c])
    have hu7 := hu'.1
    refine k_X25_onResource_47 o (fun c => ?_) (fun c => ?_)
    · have c := (bit4 (a := u.1) (by omega) 4 (by omega)).mp c
      refine k_X25_onResource_56 o ?_
      exact n1 false (by unfold hsR; rw [c]; rfl)
    · have c : ¬ u.1 &&& 4 = 0 := fun z => c ((bit4 (a := u.1) (by omega) 4 (by omega)).mpr z)
      refine k_X25_onResource_52 o ?_
      exact n1 true (by unfold hsR; simp [c])
  refine k_X25_onResource_4 o (fun c => ?_) (fun c => ?_)
  · have c : ¬ op = 47 := fun z => c (by rw [z])
    rw [if_neg c] at main
    rw [ff15]
    refine k_X25_onResource_28 o ?_
    refine ltakT_ok (t := [5]) hs.1.1 hr (fun _ _ => ⟨rfl, t5.tv.1⟩) (by omega) fun h1 f1 r1 => ?_
    exact main h1 f1 r1
  · have c : op = 47 := (nI_eq (by omega) (by omega)).mp c
    rw [if_pos c] at main
    rw [ff15]
    refine k_X25_onResource_20 o ?_
    refine ltakT_ok (t := [6, a]) hs.1.1 hr (fun _ _ => ⟨rfl, hTs.tv.1⟩) (by omega) fun h1 f1 r1 => ?_
    refine k_X25_onResource_25 o ?_
    exact main h1 f1 r1
