/-! types up to a place, and all bounds -/
theorem typesTo_ok {G : Gt} {d : Nat} {h : AH} {K : Outcome → AH → Prop} {R W Q T n e : Nat} {B : Nat → Nat} {m : Md} {pre mid post : TL} (hs : RB h R W Q T n B m) (hm : mts m = pre ++ mid ++ post) (hT : ∀ x ∈ mts m, tby x.1 ∧ x.1.length ≤ 7 ∧ x.2 < 2048) (h1 : ∀ x ∈ mid, x.2 < e) (h2 : ∀ x r, post = x :: r → e ≤ x.2) (he : e ≤ 2048) (ha : h.I 1415 R = nI pre.length) (hd : 2 ≤ d)
    (kk : OQ (mid.findSome? (tck (nst m))) (∀ h', Fq (FS [1415]) h h' → h'.I 1415 R = nI (pre ++ mid).length → K (.returned none) h') (TE K R W T h)) : MW G d e_X12_typesTo [.ref R, .int (nI e)] h K := by
  refine st_X12_typesTo fun X o hG hD hf => ?_
  subst hG; subst hD
  have hn := hs.1.2.1.2.1
  have hl : (mts m).length ≤ n := hs.1.2.2.2.2.1.2
  have loop : ∀ mid pre h1, mts m = pre ++ mid ++ post → (∀ x ∈ mid, x.2 < e) → Fq (FS [1415]) h h1 → h1.I 1415 R = nI pre.length → OQ (mid.findSome? (tck (nst m))) (∀ h', Fq (FS [1415]) h h' → h'.I 1415 R = nI (pre ++ mid).length → K (.returned none) h') (TE K R W T h) → ∀ v2 v3 v4, V X K 0 [.ref R, .int (nI e), v2, v3, v4] [] h1 := by
    intro mid
    induction mid with
    | nil =>
      intro pre hx hmx hy fx ax kx v2 v3 v4
      have sx := hs.fr fx.1 (FS.no rfl)
      obtain ⟨⟨⟨s1, s2, s3⟩, s4, s5, s6, ⟨s7, s8⟩, s9, s10⟩, ⟨⟨a1, a2, a3, a4, a5⟩, ⟨b1, b2, b3, b4, b5, b6⟩, m1, m2, m3, m4, m5⟩⟩ := id sx
      obtain ⟨⟨g1, g2, g3, g4', g5, g6⟩, ⟨p1, p2, p3, p4, p5, p6, p7, p8⟩, -⟩ := id s3
      have t0 := s1.1
      have t1 := s7.1
      rw [List.append_nil] at hmx
      have lp : pre.length ≤ (mts m).length := by rw [hmx]; simp
      have fin : V X K 134 [.ref R, .int (nI e), v2, v3, v4] [] hx := by
        refine k_X12_typesTo_134 o ?_
        have kx : ∀ h', Fq (FS [1415]) h h' → h'.I 1415 R = nI (pre ++ []).length → K (.returned none) h' := kx
        exact kx hx fx (by rw [List.append_nil]; exact ax)
      refine k_X12_typesTo_0 o (fun c => ?_) (fun c => ?_)
      · exact fin
      have c : pre.length < (mts m).length := Nat.not_le.mp fun z => c ((nI_leI (by omega) (by omega)).mpr z)
      have hp : ∃ x r, post = x :: r := by
        cases post with
        | nil => rw [hmx] at c; simp at c
        | cons x r => exact ⟨x, r, rfl⟩
      obtain ⟨x, r, hp⟩ := hp
      have hx' : (mts m)[pre.length]? = some x := by rw [hmx, hp]; simp
      have ix : IX (nI pre.length) 2048 pre.length := IX.mk (by omega) (by omega)
      have hpl := (s7.2 _ _ hx').2
      have hx2 := (hT x (List.mem_of_getElem? hx')).2.2
      refine k_X12_typesTo_17 o (fun c2 => ?_) (fun c2 => ?_)
      · exact fin
      · exact absurd ((nI_leI (by omega) (by omega)).mpr (h2 x r hp)) c2
    | cons x mid ih =>
      intro pre hx hmx hy fx ax kx v2 v3 v4
      have sx := hs.fr fx.1 (FS.no rfl)
      obtain ⟨⟨⟨s1, s2, s3⟩, s4, s5, s6, ⟨s7, s8⟩, s9, s10⟩, ⟨⟨a1, a2, a3, a4, a5⟩, ⟨b1, b2, b3, b4, b5, b6⟩, m1, m2, m3, m4, m5⟩⟩ := id sx
      obtain ⟨⟨g1, g2, g3, g4', g5, g6⟩, ⟨p1, p2, p3, p4, p5, p6, p7, p8⟩, -⟩ := id s3
      have t0 := s1.1
      have t1 := s7.1
      have c0 : pre.length < (mts m).length := by rw [hmx]; simp
      have hx' : (mts m)[pre.length]? = some x := by rw [hmx]; simp
      have ix : IX (nI pre.length) 2048 pre.length := IX.mk (by omega) (by omega)
      obtain ⟨hr, hpl⟩ := s7.2 _ _ hx'
      obtain ⟨q1, q2, q3⟩ := hT x (List.mem_of_getElem? hx')
      have hxe := hy x (by simp)
      have ht : tyc x.1 < 9223372036854775808 := by
        have h1 := tyc_lt q1
        have h2 : 256 ^ x.1.length ≤ 256 ^ 7 := Nat.pow_le_pow_right (by omega) (by omega)
        omega
      refine k_X12_typesTo_0 o (fun c => ?_) (fun c => ?_)
      · exact absurd ((nI_leI (by omega) (by omega)).mp c) (by omega)
      refine k_X12_typesTo_17 o (fun c2 => ?_) (fun c2 => ?_)
      · exact absurd ((nI_leI (by omega) (by omega)).mp c2) (by omega)
      have et : un (((lN (tyc x.1) >>> ((nI 8).toInt64 &&& 63)) &&& 255)) = tyc x.1 / 256 % 256 := by rw [un_fld (m := 8) _ (by omega) (by omega) rfl, un_l (by omega)]
      have el : (lN (tyc x.1) &&& (255 : Int64)).toInt32 = nI (tyc x.1 % 256) := um_inj (by rw [um_32, un_and, un_l (by omega), um_n (by omega), show un (255 : Int64) = 2 ^ 8 - 1 from rfl, Nat.and_two_pow_sub_one_eq_mod]; omega)
      have hsx := sidx_n q1
      have hns : nst m ≤ 64 := by unfold nst; omega
      -- the need, and the next one
      have key : ∀ b v4, ife b 7 x.2 = tck (nst m) x → V X K 101 [.ref R, .int (nI e), .long (lN (tyc x.1)), nov, v4] [.int (bI b), .ref R] hx := fun b v4 hb => by
        have kx : OQ ((tck (nst m) x).or (mid.findSome? (tck (nst m)))) (∀ h', Fq (FS [1415]) h h' → h'.I 1415 R = nI (pre ++ x :: mid).length → K (.returned none) h') (TE K R W T h) := by
          rw [List.findSome?_cons] at kx
          cases ht : tck (nst m) x with
          | none => rw [ht] at kx; exact kx
          | some e => rw [ht] at kx; exact kx
        have kx := OQ.or.mp kx
        rw [← hb] at kx
        refine k_X12_typesTo_101 o ?_
        refine rneed2_ok (T := T) s1 (by omega) (kx.mono (fun k2 => ?_) (fun w q t => TE.fq (fx.mono fun f a z => Or.inl (FS.mono (l := [1415]) rfl f a z)) t))
        refine k_X12_typesTo_121 o ?_
        rw [nI_add]
        refine ih (pre ++ [x]) (hx.sI 1415 R (nI (pre.length + 1))) (by rw [hmx]; simp) (fun y hy' => hy y (by simp [hy'])) (fx.sI rfl) (by rw [I_same]; simp) ?_ _ _ _
        simpa using k2
      refine k_X12_typesTo_36 o (fun c3 => ?_) (fun c3 => ?_)
      · have c3 : ¬ tyc x.1 / 256 % 256 = 6 := fun z => c3 (un_inj (by rw [et, z]; rfl))
        rw [if_neg c3] at hsx
        refine k_X12_typesTo_71 o ?_
        refine k_X12_typesTo_72 o (fun c4 => ?_) (fun c4 => ?_)
        · refine k_X12_typesTo_96 o ?_
          exact key true _ (by unfold tck; rw [hsx]; rfl)
        · exact absurd rfl c4
      · have c3 : tyc x.1 / 256 % 256 = 6 := by have := congrArg un c3; rw [et] at this; exact this
        rw [if_pos c3] at hsx
        refine k_X12_typesTo_67 o ?_
        refine k_X12_typesTo_72 o (fun c4 => ?_) (fun c4 => ?_)
        · exact absurd c4 (by decide)
        refine k_X12_typesTo_80 o ?_
        rw [el]
        refine st_X3_structureCount fun X' o' hG' hD' _ => ?_
        refine k_X3_structureCount_0 o' ?_
        rw [nI_add]
        show V X K 93 [.ref R, .int (nI e), .long (lN (tyc x.1)), nov, .int (nI 1)] [.int (nI (nst m)), .int (nI (tyc x.1 % 256)), .ref R] hx
        refine k_X12_typesTo_93 o (fun c5 => ?_) (fun c5 => ?_)
        · have c5 := (nI_leI (by omega) (by omega)).mp c5
          refine k_X12_typesTo_100 o ?_
          exact key false _ (by unfold tck; rw [hsx]; simp only; rw [if_neg (by omega)]; rfl)
        · have c5 : tyc x.1 % 256 < nst m := Nat.not_le.mp fun z => c5 ((nI_leI (by omega) (by omega)).mpr z)
          refine k_X12_typesTo_96 o ?_
          exact key true _ (by unfold tck; rw [hsx]; simp only; rw [if_pos c5]; rfl)
  exact loop mid pre h hm h1 (Fq.refl h) ha kk _ _ _
/-- where functions lie on the tape: types of each before its first instruction -/
def FP : Nat → List Ux → Prop
  | _, [] => True
  | p, u :: us => ∃ q, p ≤ q ∧ (∀ x ∈ ut u, p ≤ x.2 ∧ x.2 < q) ∧ (∃ y r, ui u = y :: r ∧ y.2.2.2 = q) ∧ q ≤ 2047 ∧ FP (q + 1) us
theorem FP.ge : ∀ {us : List Ux} {p : Nat}, FP p us → ∀ x ∈ uts us, p ≤ x.2
  | [], p, _, x, hx => by simp [uts] at hx
  | u :: us, p, ⟨q, h0, h1, ⟨y, r, e, hy⟩, hq, h2⟩, x, hx => by
    have hx : x ∈ ut u ++ uts us := by simpa [uts] using hx
    rcases List.mem_append.mp hx with z | z
    · exact (h1 x z).1
    · have := h2.ge x z; omega
def bfs (m : Md) : List Ux → Option (Nat × Nat)
  | [] => none
  | u :: us => ((ut u).findSome? (tck (nst m))).or (((ui u).findSome? (ick m u)).or (bfs m us))
/-- the first number that is out of bounds -/
def bds (m : Md) : Option (Nat × Nat) := ((sst m.2.1 ++ ccs m.2.2.2.1 ++ m.2.2.2.2.1).findSome? (tck (nst m))).or (bfs m m.2.2.2.2.2)
/-- what is known of a module that was read from a tape of n bytes -/
def WM (n : Nat) (m : Md) : Prop := (∀ x ∈ mts m, tby x.1 ∧ x.1.length ≤ 7 ∧ x.2 < 2048) ∧ (∀ x ∈ mcs m, ixw x) ∧ (∃ p, (∀ x ∈ sst m.2.1 ++ ccs m.2.2.2.1 ++ m.2.2.2.2.1, x.2 < p) ∧ FP p m.2.2.2.2.2) ∧ (∀ x ∈ mts m, x.2 < n) ∧ ∀ u ∈ m.2.2.2.2.2, nlo u < 256 ∧ (ui u).length ≤ 1024
theorem fsm_or {α β : Type} (f : α → Option β) (l r : List α) : (l ++ r).findSome? f = (l.findSome? f).or (r.findSome? f) := by rw [List.findSome?_append]
theorem bounds_ok {G : Gt} {d : Nat} {h : AH} {K : Outcome → AH → Prop} {R W Q T n : Nat} {B : Nat → Nat} {m : Md} (hs : RB h R W Q T n B m) (hw : WM n m) (hd : 4 ≤ d)
    (kk : OQ (bds m) (∀ h', Fq (FS [1415]) h h' → K (.returned none) h') (TE K R W T h)) : MW G d e_X12_bounds [.ref R] h K := by
  refine st_X12_bounds fun X o hG hD hf => ?_
  subst hG; subst hD
  obtain ⟨wt, wc, ⟨p0, wp, wf⟩, wn, wu⟩ := hw
  have hn := hs.1.2.1.2.1
  have hc : (mcs m).length ≤ n := hs.1.2.2.2.2.2.2
  have hl6 := hs.2.2.1.2.2.2.2.2
  have toRQ : ∀ f a, FS [1415] f a → RQ T f a := fun f a z => Or.inl (FS.mono (l := [1415]) rfl f a z)
  have loop : ∀ us' k pre pend p hx, k ≤ m.2.2.2.2.2.length → m.2.2.2.2.2.drop k = us' → mts m = pre ++ pend ++ uts us' → (∀ x ∈ pend, x.2 < p) → FP p us' → Fq (FS [1415]) h hx → hx.I 1415 R = nI pre.length → OQ ((pend.findSome? (tck (nst m))).or (bfs m us')) (∀ h', Fq (FS [1415]) h h' → K (.returned none) h') (TE K R W T h) → ∀ v2 v3, V X K 7 [.ref R, .int (nI k), v2, v3] [] hx := by
    intro us'
    induction us' with
    | nil =>
      intro k pre pend p hx hkl hk hm hp hfp fx ax kx v2 v3
      have sx := hs.fr fx.1 (FS.no rfl)
      obtain ⟨⟨⟨s1, s2, s3⟩, s4, -⟩, ⟨⟨a1, a2, a3, a4, a5⟩, -⟩⟩ := id sx
      have t0 := s1.1
      have t1 := s3.1.1
      have t2 := s4.1
      have hk' : m.2.2.2.2.2.length ≤ k := List.drop_eq_nil_iff.mp hk
      have kx := OQ.or.mp kx
      refine k_X12_bounds_7 o (fun c => ?_) (fun c => ?_)
      rotate_left
      · exact absurd ((nI_leI (by omega) (by omega)).mpr hk') c
      refine k_X12_bounds_83 o ?_
      refine typesTo_ok (pre := pre) (mid := pend) (post := []) sx (by rw [hm]; simp [uts]) wt (fun x hx => wn x (by rw [hm]; simp [hx])) (fun x r e => by cases e) hn ax (by omega) (kx.mono (fun k2 h' f' _ => ?_) (fun w q t => TE.fq (fx.mono toRQ) t))
      refine k_X12_bounds_91 o ?_
      exact k2 h' (fx.trans f')
    | cons u us' ih =>
      intro k pre pend p hx hkl hk hm hp hfp fx ax kx v2 v3
      have sx := hs.fr fx.1 (FS.no rfl)
      obtain ⟨⟨⟨s1, s2, s3⟩, s4, s5, s6, ⟨s7, s8⟩, s9, s10⟩, ⟨⟨a1, a2, a3, a4, a5⟩, ⟨b1, b2, b3, b4, b5, b6⟩, m1, m2, m3, m4, m5⟩⟩ := id sx
      obtain ⟨⟨g1, g2, g3, g4', g5, g6⟩, ⟨p1, p2, p3, p4, p5, p6, p7, p8⟩, ⟨c1, c2, c3, c4, c5, c6, c7, c8, c9⟩, dS, dF⟩ := id s3
      have t0 := s1.1
      have hk' : k < m.2.2.2.2.2.length := by
        rcases Nat.lt_or_ge k m.2.2.2.2.2.length with z | z
        · exact z
        · rw [List.drop_eq_nil_iff.mpr z] at hk; cases hk
      have hu : m.2.2.2.2.2[k]? = some u := by
        have : (m.2.2.2.2.2.drop k)[0]? = some u := by rw [hk]; rfl
        rw [List.getElem?_drop, Nat.add_zero] at this; exact this
      obtain ⟨q, hpq, hq1, ⟨y, r, ey, hy⟩, hq2, hfp2⟩ := hfp
      have ux := m5 k u hu
      obtain ⟨cpre, cpost, e1, e2, e3⟩ := id ux.2.2.2.2
      obtain ⟨d1, d2, d3, d6, d7, d8⟩ := dF k (by omega)
      rw [show T + 141 + 4 * k = T + 140 + 4 * k + 1 by omega] at d3 d6
      rw [show T + 142 + 4 * k = T + 140 + 4 * k + 2 by omega] at d3 d7
      rw [show T + 143 + 4 * k = T + 140 + 4 * k + 3 by omega] at d3 d8
      generalize hF : T + 140 + 4 * k = F at *
      have lc : cpre.length + (ui u).length ≤ (mcs m).length := by rw [e1]; simp
      have hy' : (mcs m)[cpre.length]? = some y := by rw [e1, ey]; simp
      have hpl := (s9.2 _ _ hy').2.2.2
      rw [hy] at hpl
      have ixk : IX (nI k) 96 k := IX.mk (by omega) (by omega)
      have l1 : 1 ≤ (ui u).length := by rw [ey]; simp
      have ixf : IX (nI cpre.length) 2048 cpre.length := IX.mk (by omega) (by omega)
      have hm2 : mts m = pre ++ (pend ++ ut u) ++ uts us' := by rw [hm]; simp [uts]
      have kx : OQ (((pend ++ ut u).findSome? (tck (nst m))).or (((ui u).findSome? (ick m u)).or (bfs m us'))) (∀ h', Fq (FS [1415]) h h' → K (.returned none) h') (TE K R W T h) := by
        rw [fsm_or]
        have e : ∀ a b c : Option (Nat × Nat), (a.or b).or c = a.or (b.or c) := fun a b c => by cases a <;> rfl
        rw [e]; exact kx
      have kx := OQ.or.mp kx
      refine k_X12_bounds_7 o (fun c => ?_) (fun c => ?_)
      · exact absurd ((nI_leI (by omega) (by omega)).mp c) (by omega)
      refine k_X12_bounds_18 o ?_
      refine typesTo_ok (pre := pre) (mid := pend ++ ut u) (post := uts us') (e := q) sx hm2 wt (fun x hx => ?_) (fun x r e => ?_) (by omega) ax (by omega) (kx.mono (fun k2 h2 f2 a2 => ?_) (fun w q t => TE.fq (fx.mono toRQ) t))
      · rcases List.mem_append.mp hx with z | z
        · have := hp x z; omega
        · exact (hq1 x z).2
      · have := hfp2.ge x (by rw [e]; simp); omega
      have F2 := fx.trans f2
      have s2' := hs.fr F2.1 (FS.no rfl)
      have k2 := OQ.or.mp k2
      -- its instructions
      have inner : ∀ b a hz, ui u = a ++ b → Fq (FS [1415]) h hz → hz.I 1415 R = nI (pre ++ (pend ++ ut u)).length → OQ (b.findSome? (ick m u)) (OQ (bfs m us') (∀ h', Fq (FS [1415]) h h' → K (.returned none) h') (TE K R W T h)) (TE K R W T h) → V X K 52 [.ref R, .int (nI k), .ref F, .int (nI (cpre.length + a.length))] [] hz := by
        intro b
        induction b with
        | nil =>
          intro a hz ea fz az kz
          have sz := hs.fr fz.1 (FS.no rfl)
          obtain ⟨⟨⟨w1, w2, w3⟩, -⟩, ⟨-, -, -, -, -, -, w5⟩⟩ := id sz
          have tF := (w3.2.2.2.2 k (by omega)).2.1
          rw [hF] at tF
          have e2z : hz.I 900 F = nI cpre.length := by rw [fz.1.I (FS.n rfl), ← fx.1.I (P := FS [1415]) (f := 900) (a := F) (FS.n rfl)]; exact e2
          have e3z : hz.I 901 F = nI (ui u).length := by rw [fz.1.I (FS.n rfl), ← fx.1.I (P := FS [1415]) (f := 901) (a := F) (FS.n rfl)]; exact e3
          rw [List.append_nil] at ea
          refine k_X12_bounds_52 o (fun c5 => ?_) (fun c5 => ?_)
          rotate_left
          · refine absurd ?_ c5
            have la : a.length = (ui u).length := by rw [ea]
            rw [nI_add, la]
            exact (nI_leI (by omega) (by omega)).mpr (Nat.le_refl _)
          refine k_X12_bounds_77 o ?_
          rw [nI_add]
          refine ih (k + 1) (pre ++ (pend ++ ut u)) [] (q + 1) hz hk' ?_ (by rw [List.append_nil]; exact hm2) (fun x hx => by cases hx) hfp2 fz az ?_ _ _
          · rw [← List.drop_drop, hk]; rfl
          · exact kz
        | cons x b ihb =>
          intro a hz ea fz az kz
          have sz := hs.fr fz.1 (FS.no rfl)
          obtain ⟨⟨⟨w1, w2, w3⟩, -⟩, ⟨-, -, -, -, -, -, w5⟩⟩ := id sz
          have wd := w3.2.2.2.2 k (by omega)
          rw [show T + 141 + 4 * k = T + 140 + 4 * k + 1 by omega, show T + 142 + 4 * k = T + 140 + 4 * k + 2 by omega, show T + 143 + 4 * k = T + 140 + 4 * k + 3 by omega, hF] at wd
          obtain ⟨z1, z2, z3, z6, z7, z8⟩ := wd
          have t0 := w1.1
          have e2z : hz.I 900 F = nI cpre.length := by rw [fz.1.I (FS.n rfl), ← fx.1.I (P := FS [1415]) (f := 900) (a := F) (FS.n rfl)]; exact e2
          have e3z : hz.I 901 F = nI (ui u).length := by rw [fz.1.I (FS.n rfl), ← fx.1.I (P := FS [1415]) (f := 901) (a := F) (FS.n rfl)]; exact e3
          have lu : (ui u).length = a.length + b.length + 1 := by rw [ea]; simp; omega
          have hxi : (mcs m)[cpre.length + a.length]? = some x := by rw [e1, ea]; simp
          have uz := w5 k u hu
          rw [hF] at uz
          have kz : OQ ((ick m u x).or (b.findSome? (ick m u))) (OQ (bfs m us') (∀ h', Fq (FS [1415]) h h' → K (.returned none) h') (TE K R W T h)) (TE K R W T h) := by
            rw [List.findSome?_cons] at kz
            cases ht : ick m u x with
            | none => rw [ht] at kz; exact kz
            | some e => rw [ht] at kz; exact kz
          have kz := OQ.or.mp kz
          refine k_X12_bounds_52 o (fun c5 => ?_) (fun c5 => ?_)
          · refine absurd c5 ?_
            rw [nI_add]
            intro c5
            exact absurd ((nI_leI (by omega) (by omega)).mp c5) (by omega)
          refine k_X12_bounds_65 o ?_
          have hu2 := wu u (List.mem_of_getElem? hu)
          refine operands_ok sz z2 z3 ⟨z6, z7, z8⟩ uz ⟨hu2.1, by omega⟩ hxi (wc x (List.mem_of_getElem? hxi)) (by omega) (kz.mono (fun k3 => ?_) (fun w q t => TE.fq (fz.mono toRQ) t))
          refine k_X12_bounds_71 o ?_
          rw [nI_add, Nat.add_assoc]
          have := ihb (a ++ [x]) hz (by rw [ea]; simp) fz az k3
          simpa using this
      have tF2 := (s2'.1.1.2.2.2.2.2.2 k (by omega)).2.1
      rw [hF] at tF2
      have e2z : h2.I 900 F = nI cpre.length := by rw [f2.1.I (FS.n rfl)]; exact e2
      refine k_X12_bounds_47 o ?_
      have := inner (ui u) [] h2 rfl F2 a2 k2
      simpa using this
  have t0 := hs.1.1.1.1
  refine k_X12_bounds_0 o ?_
  exact loop m.2.2.2.2.2 0 [] _ p0 (h.sI 1415 R (nI 0)) (Nat.zero_le _) rfl (by unfold mts; simp) wp wf ((Fq.refl h).sI rfl) (I_same ..) kk _ _
