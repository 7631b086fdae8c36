/-! the twin's machine: places, and resources -/
/-- what places hold, as the twin tells it -/
def TEV (env : Pc → Cn) (t : Tst) : Prop := (∀ a, env (1, a, 0) = tac t a) ∧ (∀ a, (env (2, a, 0)).2.2.2 = none) ∧ ∀ a k, env (3, a, k) = trsc t a k
section
variable {G : Gt} {d : Nat} {h h' : AH} {o o' : Lc} {tx ax UX at' : Nat → Nat} {A n n' lim : Nat} {snd : Int64} {s : Ms} {K : Outcome → AH → Prop} {t : Tst} {env : Pc → Cn}
theorem tmask_ok {sort kd : Nat} {a : Int64} {w : List It} (k : TK h A tx UX at' o n (sK s w)) (t5 : ∀ j, 1 ≤ j → o (5, 0, j, 0) = none) (sv : TSV h A ax t) (te : TEV env t) (hs : 1 ≤ sort ∧ sort ≤ 3) (hk : kd < 2147483648) (h3 : sort ≠ 3 → kd = 0) (hN : n + 64 ≤ 24576) (hd : 44 ≤ d)
    (k1 : ∀ h' o' n' s1 e x, (∀ f, mask env true (sort, a, kd) s f = f e s1) → Fq (FS twF) h h' → TK h' A tx UX at' o' n' (sK s1 w) → (∀ a b c, o' (5, a, b, c) = o (5, a, b, c)) → (ens s1)[e]? = some x → x.1 = (sort, a, kd) → (x ∈ ens s ∨ x = ((sort, a, kd), env (sort, a, kd), env (sort, a, kd), false)) → s1.1 = s.1 ∧ s1.2.1 = s.2.1 ∧ gas s1 = gas s → (ens s).length ≤ (ens s1).length ∧ n' ≤ n + 64 * ((ens s1).length - (ens s).length) ∧ e < 24 → K (.returned (some (.int (nI e)))) h')
    (k2 : (∀ f, mask env true (sort, a, kd) s f = mst 2 4 s) → ∀ h', Fq (FS twF) h h' → TKX h' A 2 4 (gas s) → K (.returned (some (.int (-1)))) h') : MW G d e_X23_ask [.ref A, .int (nI sort), .long a, .int (nI kd)] h K := by
  have l24 : (ens s).length ≤ 24 := k.2.2.1.2.1
  have ak : s.2.2.2.1 = (ens s).length := k.2.2.1.2.2
  refine task_ok (c := env (sort, a, kd)) k t5 sv hs hk (fun z => ?_) (fun z => ?_) (fun z => ?_) hN hd (fun e he => ?_) (fun hn hl h2 q2 x2 => ?_) (fun hn hl h2 o2 n2 q2 k2' c2 l2 m2 => ?_)
  · rw [z, h3 (by omega)]; exact te.1 a
  · rw [z, h3 (by omega)]; exact te.2.1 a
  · rw [z]; exact te.2.2 a kd
  · have he : ((ens s).findIdx? fun x => x.1 == (sort, a, kd)) = some e := he
    have hm : ∀ f, mask env true (sort, a, kd) s f = f e s := fun f => by unfold mask; rw [he]
    rw [List.findIdx?_eq_some_iff_getElem] at he
    obtain ⟨el, e1, -⟩ := he
    exact k1 h o n s e (ens s)[e] hm (Fq.refl h) k (fun _ _ _ => rfl) (List.getElem?_eq_getElem el) (by simpa using e1) (Or.inl (List.getElem_mem el)) ⟨rfl, rfl, rfl⟩ ⟨Nat.le_refl _, by omega, by omega⟩
  · have hn : ((ens s).findIdx? fun x => x.1 == (sort, a, kd)) = none := hn
    have hl : (ens s).length = 24 := hl
    refine k2 (fun f => ?_) h2 q2 x2
    unfold mask
    rw [hn]
    show (if true && s.2.2.2.1 == 24 then mst 2 4 s else _) = _
    rw [if_pos (by rw [ak, hl]; rfl)]
  · have hn : ((ens s).findIdx? fun x => x.1 == (sort, a, kd)) = none := hn
    have hl : (ens s).length < 24 := hl
    have hm : ∀ f, mask env true (sort, a, kd) s f = f (ens s).length (s.1, s.2.1, ens s ++ [((sort, a, kd), env (sort, a, kd), env (sort, a, kd), false)], s.2.2.2.1 + 1, gas s) := fun f => by
      unfold mask
      rw [hn]
      show (if true && s.2.2.2.1 == 24 then mst 2 4 s else _) = _
      rw [if_neg (by rw [ak]; simp; omega)]
      rfl
    have ln : (ens s ++ [((sort, a, kd), env (sort, a, kd), env (sort, a, kd), false)]).length = (ens s).length + 1 := by rw [List.length_append]; rfl
    refine k1 h2 o2 n2 _ _ ((sort, a, kd), env (sort, a, kd), env (sort, a, kd), false) hm q2 k2' c2 ?_ rfl (Or.inr rfl) ⟨rfl, rfl, rfl⟩ ⟨?_, ?_, hl⟩
    · show (ens s ++ [_])[(ens s).length]? = _
      rw [List.getElem?_append_right (Nat.le_refl _), Nat.sub_self]; rfl
    · show _ ≤ (ens s ++ [_]).length
      rw [ln]; omega
    · show n2 ≤ n + 64 * ((ens s ++ [_]).length - (ens s).length)
      rw [ln]; omega
/-- a push, as it writes -/
theorem rpush_ok {H a : Nat} {b : Bool} (t0 : h.tag A = some (22, 0)) (ho : h.I 2843 A = -1) (hh : h.I 2861 A = nI H) (hH : H < 2200) (r1 : h.R 2859 A = some (tx 1)) (r2 : h.tag (tx 1) = some (1216, 2200)) (r3 : h.R 2860 A = some (tx 2)) (r4 : h.tag (tx 2) = some (1234, 2200)) (hd : 1 ≤ d) (kk : K (.returned none) (((h.sEI 1216 (tx 1) H (nI a)).sEI 1234 (tx 2) H (bI b)).sI 2861 A (nI (H + 1)))) : MW G d e_X23_push [.ref A, .int (nI a), .int (bI b)] h K := by
  refine st_X23_push fun X oo hG hD _ => ?_
  subst hG; subst hD
  have ix : IX (nI H) 2200 H := IX.mk hH (by omega)
  refine k_X23_push_0 oo ?_
  refine goes_ok t0 ho ?_
  refine k_X23_push_4 oo (fun _ => ?_) (fun q => absurd q (by decide))
  refine k_X23_push_8 (r2 := r1) (r4 := hh) (r10 := r3) (r12 := hh) (r19 := hh) oo ?_
  rw [nI_add]
  exact kk
/-- what lies at an entry changes -/
theorem TK.enu {e : Nat} {x x' : En} (k : TK h A tx UX at' o n s) (hx : (ens s)[e]? = some x) (sm : SMm h' A tx) (th : TH h' (tx 0) n' o') (hI : ∀ f ∈ [2843, 2842, 2852, 2861, 2845], h'.I f A = h.I f A) (nE : ∀ f ∈ [1216, 1234, 1184, 1202, 1168, 1152, 1120, 1136], ∀ a p, h'.EI f a p = h.EI f a p) (nA : ∀ f ∈ [1024, 1056, 1106, 1088], ∀ a p, p ≠ e → h'.EI f a p = h.EI f a p) (nJ : ∀ f ∈ [1043, 1075], ∀ a p, p ≠ e → h'.EJ f a p = h.EJ f a p) (ho : ∀ p : Sl, p.1 ≠ 5 → p ≠ (3, 0, e, 0) → o' p = o p) (hr : ∀ q ∈ rfs s, ∀ a, rad o 0 q = some a → rad o' 0 q = some a) (hx' : TKE h' o' tx e x') : TK h' A tx UX at' o' n' (sE s ((ens s).set e x')) := by
  obtain ⟨⟨k1, k2⟩, ⟨k3, k4, k5, k6, k7⟩, ⟨k8, k8', k8''⟩, k9, k10, k11, k12, k13⟩ := k
  have ln : ((ens s).set e x').length = (ens s).length := List.length_set
  refine ⟨⟨sm, th⟩, ⟨by rw [hI _ (by decide)]; exact k3, by rw [hI _ (by decide)]; exact k4, by rw [hI _ (by decide)]; exact k5, by rw [hI _ (by decide)]; exact k6, by rw [hI _ (by decide)]; show _ = nI ((ens s).set e x').length; rw [ln]; exact k7⟩, ⟨k8, by show ((ens s).set e x').length ≤ 24; rw [ln]; exact k8', by show _ = ((ens s).set e x').length; rw [ln]; exact k8''⟩, fun j hj => ?_, fun i y hy => ?_, fun p hp => by rw [ho _ (by show (1 : Nat) ≠ 5; decide) (by intro e; cases e)]; exact k11 p hp, fun j m hj => by rw [ho _ (by show (2 : Nat) ≠ 5; decide) (by intro e; cases e)]; exact k12 j m hj, fun i b hi => ?_⟩
  · have hj : j < s.1 := hj
    obtain ⟨⟨f1, f2, f3, f4⟩, ⟨f5, f6⟩, f7⟩ := k9 j hj
    refine ⟨⟨by rw [nE _ (by decide)]; exact f1, by rw [nE _ (by decide)]; exact f2, by rw [nE _ (by decide)]; exact f3, by rw [nE _ (by decide)]; exact f4⟩, ⟨f5.kp (fun p _ _ => ⟨nE _ (by decide) _ _, nE _ (by decide) _ _, ho _ (by show (1 : Nat) ≠ 5; decide) (by intro e; cases e)⟩) (fun r hm => hr r (rfs_l hj (rfF_s hm))), f6⟩, fun m => ?_⟩
    have := f7 m
    have ho2 := ho (2, 0, j, m) (by show (2 : Nat) ≠ 5; decide) (by intro e; cases e)
    by_cases c : m < 40
    · rw [if_pos c] at this ⊢
      exact this.kp (nE _ (by decide) _ _) (nE _ (by decide) _ _) ho2 (fun r hr' => hr r (rfs_l hj (rfF_k c hr')))
    · rw [if_neg c] at this ⊢
      rw [ho2]; exact this
  · have hy : ((ens s).set e x')[i]? = some y := hy
    by_cases c : i = e
    · rw [c, List.getElem?_set_self (get_lt hx)] at hy
      cases hy
      rw [c]; exact hx'
    · rw [List.getElem?_set_ne (fun z => c z.symm)] at hy
      exact (k10 i y hy).kp (fun f hf a => nA f hf a i c) (fun f hf a => nJ f hf a i c) (ho _ (by show (3 : Nat) ≠ 5; decide) (fun z => c (congrArg (fun p : Sl => p.2.2.1) z)))
  · have hi : ((ens s).set e x').length ≤ i ∨ b ≠ 0 := hi
    rw [ln] at hi
    have el := get_lt hx
    rw [ho _ (by show (3 : Nat) ≠ 5; decide) (fun z => by
      have z1 : i = e := congrArg (fun p : Sl => p.2.2.1) z
      have z2 : b = 0 := congrArg (fun p : Sl => p.2.2.2) z
      omega)]
    exact k13 i b hi
/-- rows of entries alone are written -/
def enuF : List Nat := [10000 + 1075, 10000 + 1088, 10000 + 1106]
theorem TK.enr {e : Nat} {x x' : En} (k : TK h A tx UX at' o n s) (hx : (ens s)[e]? = some x) (q : Fq (FS enuF) h h') (nA : ∀ f a p, p ≠ e → h'.EI f a p = h.EI f a p ∧ h'.EJ f a p = h.EJ f a p) (o' : Lc) (th : TH h (tx 0) n' o') (ho : ∀ p : Sl, p.1 ≠ 5 → p ≠ (3, 0, e, 0) → o' p = o p) (hr : ∀ q ∈ rfs s, ∀ a, rad o 0 q = some a → rad o' 0 q = some a) (hx' : TKE h' o' tx e x') : TK h' A tx UX at' o' n' (sE s ((ens s).set e x')) :=
  TK.enu k hx (k.1.1.fr q.1 (FS.no (by decide))) (th.fr q.1 (FS.no (by decide))) (fun f hf => q.1.I (FS.n (by
    simp only [List.mem_cons, List.mem_nil_iff, or_false] at hf
    rcases hf with e | e | e | e | e <;> (rw [e]; decide)))) (fun f hf a p => q.1.EI (FS.n (by
    simp only [List.mem_cons, List.mem_nil_iff, or_false] at hf
    rcases hf with e | e | e | e | e | e | e | e <;> (rw [e]; decide))) _) (fun f _ a p hp => (nA f a p hp).1) (fun f _ a p hp => (nA f a p hp).2) ho hr hx'
theorem bI_j : ∀ a b : Bool, bI a = bI b → a = b := by decide
theorem sEn_s {e : Nat} {x : En} {f : En → En} (h : (ens s)[e]? = some x) : sEn s e f = sE s ((ens s).set e (f x)) := by unfold sEn; rw [h]
theorem tres_ok {op kx : Nat} {m : Md} {z : Sx} (k : TK h A tx UX at' o n s) (t5 : T5 o) (cx : TCX h A snd lim) (un' : UNC h A m) (sv : TSV h A ax t) (te : TEV env t) (h1 : 1 ≤ s.1) (hN : n + 1 ≤ gas s + 64 * (ens s).length + 8) (hg : gas s ≤ lim) (hop : 47 ≤ op ∧ op < 52) (hz : m.2.1[kx]? = some z) (hk : m.1 < 65536 ∧ kx < 256) (vw : ∀ v, (Sum.inl v : It) ∈ stk s → VW v) (hen : ∀ x ∈ ens s, x.1.1 = 3 → x.2.2.1.1 = x.2.2.1.2.2.2.isSome) (hne : oRes snd env lim op m kx s ≠ none) (hd : 60 ≤ d) (kk : RZT K h A tx UX at' (oRes snd env lim op m kx s)) : MW G d e_X23_onResource [.ref A, .int (nI op), .int (nI kx)] h K := by
  refine st_X23_onResource fun X oo hG hD _ => ?_
  subst hG; subst hD
  have t0 := k.t0
  have l2 := cx.2.2
  have le24 := k.2.2.1.2.1
  have ev : ∀ j, j < 100 → (nI op = nI j ↔ op = j) := fun j hj => nI_eq (by omega) (by omega)
  have no : ∀ j, j < 100 → op ≠ j → nI op = nI j → False := fun j hj h1 h2 => h1 ((ev j hj).mp h2)
  obtain ⟨-, -, e3, -⟩ := k.hgt h1
  obtain ⟨U, nb, B, u1, u2, u3, u4⟩ := un'
  have tU : h.tag U = some (28, 0) := u2.1.1
  have kl : kx < m.2.1.length := get_lt hz
  have esid : sid m kx = 256 * m.1 + kx := by unfold sid; rw [if_pos kl]
  unfold oRes at kk hne
  cases hs : stk s with
  | nil => rw [hs] at hne; exact absurd rfl hne
  | cons x t' =>
    rw [hs] at kk hne e3
    have e3 : t'.length + 1 ≤ 64 := e3
    cases x with
    | inr r => exact absurd rfl hne
    | inl v =>
      simp only at kk hne
      obtain ⟨hm, he⟩ := mre_n hne
      rw [he] at kk hne
      have v1 : v.1 = if op = 47 then 6 else 5 := by simpa using hm
      have vwv := vw v (by rw [hs]; simp)
      refine k_X23_onResource_0 (r2 := u1) oo ?_
      refine uidn_ok u2 u3 u4 (by unfold nst; omega) (by omega) ?_
      rw [esid]
      -- behind the taking
      have main : ∀ h2 y, Fq (FS taF) h h2 → lvE y = v → TK h2 A tx UX at' (uO (uO o (1, 0, 0, bsf s.2.1 (s.1 - 1) + t'.length) none) (5, 0, 0, 0) (some y)) n (sK s t') → V X K 29 [.ref A, .int (nI op), .int (nI kx), .int (nI (256 * m.1 + kx)), nov, nov] [.int (nI y.1)] h2 := fun h2 y q2 hy k2 => by
        have t02 := k2.t0
        obtain ⟨ix, r1, r2, r3, tv, yl⟩ := k2.rd (p := (5, 0, 0, 0)) uO_s
        have y1 : y.2.1 = v.1 := by rw [← hy]; rfl
        have y2 : y.2.2.1 = v.2.1 := by rw [← hy]; rfl
        have rT := k2.1.1.1.2
        obtain ⟨⟨s1, s2, s3, s4, s5, s6⟩, s7, s8, s9, s10, s11⟩ := id k2.1.2.1.1
        have cx2 := cx.fs q2 (by decide)
        have sv2 := sv.fs q2 (by decide)
        have fy : fsz y.2.2.2 = fsz v.2.2 := by rw [← hy]; exact (fer_sz _).symm
        have dy : fdp y.2.2.2 ≤ 40 := by have := vwv.1.2.1; rw [← hy] at this; have e : fdp (fer y.2.2.2) = fdp y.2.2.2 := fer_dp _; have this : fdp (fer y.2.2.2) ≤ 40 := this; omega
        refine k_X23_onResource_29 oo ?_
        refine goes_ok t02 k2.2.1.1 ?_
        refine k_X23_onResource_35 oo (fun _ => ?_) (fun q => absurd q (by decide))
        generalize hq : (if op = 47 then snd else v.2.1.2) = aa at kk hne
        have to64 : V X K 64 [.ref A, .int (nI op), .int (nI kx), .int (nI (256 * m.1 + kx)), .int (nI y.1), nov] [.long aa, .int (nI 3), .ref A] h2 → V X K 39 [.ref A, .int (nI op), .int (nI kx), .int (nI (256 * m.1 + kx)), .int (nI y.1), nov] [] h2 := fun H => by
          by_cases c47 : op = 47
          · rw [if_pos c47] at hq
            refine k_X23_onResource_39 oo (fun q => absurd ((ev 47 (by omega)).mpr c47) q) (fun _ => ?_)
            refine k_X23_onResource_47 (r2 := cx2.1) oo ?_
            rw [hq]; exact H
          · rw [if_neg c47] at hq v1
            rw [tn_6 (by omega), y2] at r3
            refine k_X23_onResource_39 oo (fun _ => ?_) (fun q => (no 47 (by omega) c47 q).elim)
            refine k_X23_onResource_54 (r2 := rT) (r5 := s4) (r11 := r3) oo ?_
            rw [hq]; exact H
        refine to64 ?_
        refine k_X23_onResource_64 oo ?_
        refine tmask_ok (s := s) k2 (fun j hj => by rw [uO_n (fun e => by have : j = 0 := congrArg (fun p : Sl => p.2.2.1) e; omega), uO_n (by intro e; cases e)]; exact t5 0 j 0) sv2 te (by omega) (by omega) (fun z => absurd rfl z) (by omega) (by omega) (fun h3 o3 n3 s1' e x em q3 k3 c3 hx hxp hxm hs1 hnn => ?_) (fun em h3 q3 x3 => ?_)
        rotate_left
        · rw [em] at kk
          refine k_X23_onResource_68 oo (fun q => absurd q (by decide)) (fun _ => ?_)
          refine k_X23_onResource_75 oo ?_
          exact kk h3 ((twq q2 (by decide)).trans q3) x3
        rw [em] at kk hne
        simp only [hx] at kk hne
        obtain ⟨n1, n2, n3'⟩ := hs1
        obtain ⟨m1, m2, m3⟩ := hnn
        have q03 : Fq (FS twF) h h3 := (twq q2 (by decide)).trans q3
        have cx3 := cx2.fs q3 (by decide)
        have t03 := k3.t0
        have gs3 : h3.I 2842 A = nI (gas s) := by have := k3.2.1.2.1; rw [← n3']; exact this
        have te3 : TKE h3 o3 tx e x := k3.2.2.2.2.1 e x hx
        have hi3 : x.2.2.1.1 = x.2.2.1.2.2.2.isSome := by
          rcases hxm with z | z
          · exact hen x z (by rw [hxp])
          · rw [z]
            show (env (3, aa, 256 * m.1 + kx)).1 = (env (3, aa, 256 * m.1 + kx)).2.2.2.isSome
            rw [te.2.2]
            unfold trsc
            split
            · split <;> rfl
            · rfl
        have x3 : x.1.1 = 3 := by rw [hxp]
        have th3 : h3.EI 1106 (tx 14) e = bI x.2.2.1.1 := te3.2.1 (by rw [x3]; decide)
        obtain ⟨w1, w2⟩ := k3.1.1.at 13 rfl
        obtain ⟨w3, w4⟩ := k3.1.1.at 12 rfl
        have ixe : IX (nI e) 24 e := IX.mk m3 (by omega)
        have oy3 : o3 (5, 0, 0, 0) = some y := by rw [c3, uO_s]
        have l24' : (ens s1').length ≤ 24 := k3.2.2.1.2.1
        have stl : stk (sK s1' t') = t' := stk_K
        have nb1 : n3 ≤ gas s + 64 * (ens s1').length + 7 := by
          have : 64 * ((ens s1').length - (ens s).length) + 64 * (ens s).length = 64 * (ens s1').length := by rw [← Nat.mul_add]; congr 1; omega
          omega
        refine k_X23_onResource_68 oo (fun _ => ?_) (fun q => absurd (Int32.not_lt.mp (fun z => by rw [um_neg, um_n (by omega)] at z; omega)) q)
        by_cases c49 : op = 49
        · rw [if_neg (by omega), if_pos c49] at kk
          refine k_X23_onResource_76 oo (fun q => absurd ((ev 49 (by omega)).mpr c49) q) (fun _ => ?_)
          refine k_X23_onResource_82 oo ?_
          unfold mpay at kk
          rw [n3'] at kk
          refine spend_ok t03 k3.2.1.1 gs3 cx3.2.1 ⟨by omega, by omega⟩ (by omega) (fun hle h4 q4 g4 => ?_) (fun hlt h4 q4 x4 => ?_)
          · rw [if_pos hle] at kk
            have k4 := (k3.gas q4 g4).cl
            have t04 := k4.t0
            have rt4 : h4.R 2851 A = some (tx 14) := by rw [q4.1.R (FS.n (by decide))]; exact w1
            have tt4 := q4.1.tag w2
            have th4 : h4.EI 1106 (tx 14) e = bI x.2.2.1.1 := by rw [q4.1.EI (FS.n (by decide))]; exact th3
            refine k_X23_onResource_88 oo (fun q => absurd q (by decide)) (fun _ => ?_)
            have fin : ∀ L, L.length = 6 → V X K 109 L [.long (if x.2.2.1.1 then 1 else 0), .long 0, .int (nI 1), .ref A] h4 := fun L hL => by
              match L, hL with
              | [v0, v1, v2, v3, v4, v5], _ =>
                refine k_X23_onResource_109 oo ?_
                refine tkmk_ok k4 T5.clr (by show 1 ≤ s1'.1; omega) (by show (stk (sK s1' t')).length < 64; rw [stl]; omega) (by omega) (by omega) (by omega) (fun h5 o5 q5 k5 t55 => ?_)
                refine k_X23_onResource_112 oo ?_
                have es : mpu (sG (sK s1' t') (gas s + 10)) (vI 1 0 (if x.2.2.1.1 then 1 else 0)) = sK (sG s1' (gas s + 10)) (vT x.2.2.1.1 :: t') := by
                  show sG (mpu (sK s1' t') _) _ = _
                  rw [mpu_K]; rfl
                rw [es] at k5
                exact kk h5 o5 _ (q03.trans ((twq q4 (by decide)).trans q5)) k5 t55 (show n3 + 1 ≤ (gas s + 10) + 64 * (ens s1').length + 8 by omega)
            cases hb : x.2.2.1.1 with
            | true =>
              rw [hb] at th4 fin
              refine k_X23_onResource_91 (r2 := rt4) (r8 := th4) oo (fun q => absurd q (by decide)) (fun _ => ?_)
              refine k_X23_onResource_104 oo ?_
              exact fin _ rfl
            | false =>
              rw [hb] at th4 fin
              refine k_X23_onResource_91 (r2 := rt4) (r8 := th4) oo (fun _ => ?_) (fun q => absurd rfl q)
              refine k_X23_onResource_108 oo ?_
              exact fin _ rfl
          · rw [if_neg (by omega)] at kk
            refine k_X23_onResource_88 oo (fun _ => ?_) (fun q => absurd rfl q)
            refine k_X23_onResource_112 oo ?_
            exact kk h4 (q03.trans (twq q4 (by decide))) x4
        refine k_X23_onResource_76 oo (fun _ => ?_) (fun q => (no 49 (by omega) c49 q).elim)
        -- there, or not
        have to143 : ∀ b : Bool, (op == 47) = b → (x.2.2.1.1 = b → V X K 134 [.ref A, .int (nI op), .int (nI kx), .int (nI (256 * m.1 + kx)), .int (nI y.1), .int (nI e)] [] h3) → (x.2.2.1.1 ≠ b → V X K 143 [.ref A, .int (nI op), .int (nI kx), .int (nI (256 * m.1 + kx)), .int (nI y.1), .int (nI e)] [] h3) → V X K 113 [.ref A, .int (nI op), .int (nI kx), .int (nI (256 * m.1 + kx)), .int (nI y.1), .int (nI e)] [] h3 := fun b hb H1 H2 => by
          have go : V X K 131 [.ref A, .int (nI op), .int (nI kx), .int (nI (256 * m.1 + kx)), .int (nI y.1), .int (nI e)] [.int (bI b), .int (bI x.2.2.1.1)] h3 := by
            by_cases c : x.2.2.1.1 = b
            · exact k_X23_onResource_131 oo (fun q => absurd (by rw [c]) q) (fun _ => H1 c)
            · exact k_X23_onResource_131 oo (fun _ => H2 c) (fun q => absurd (bI_j _ _ q) c)
          cases b with
          | true =>
            have c47 : op = 47 := by simpa using hb
            refine k_X23_onResource_113 (r2 := w1) (r8 := th3) oo (fun q => absurd ((ev 47 (by omega)).mpr c47) q) (fun _ => ?_)
            exact k_X23_onResource_126 oo go
          | false =>
            have c47 : op ≠ 47 := by simpa using hb
            refine k_X23_onResource_113 (r2 := w1) (r8 := th3) oo (fun _ => ?_) (fun q => (no 47 (by omega) c47 q).elim)
            exact k_X23_onResource_130 oo go
        have stop : RZT K h A tx UX at' (mst 2 3 s1') → V X K 134 [.ref A, .int (nI op), .int (nI kx), .int (nI (256 * m.1 + kx)), .int (nI y.1), .int (nI e)] [] h3 := fun kk => by
          refine k_X23_onResource_134 oo ?_
          refine tkend_ok k3 (fun h4 q4 x4 => ?_)
          refine k_X23_onResource_142 oo ?_
          exact kk h4 (q03.trans q4) x4
        by_cases c47 : op = 47
        · rw [if_pos c47] at kk
          refine to143 true (by simpa using c47) (fun hb => ?_) (fun hb => ?_)
          · rw [hb] at kk
            exact stop kk
          · have hb : x.2.2.1.1 = false := by simpa using hb
            rw [hb] at kk
            have kk : RZT K h A tx UX at' (mpay lim (10 + vsz v) s1' fun s => mgo (sEn (sK s t') e (cEn (true, x.2.2.1.2.1, x.2.2.1.2.2.1, some v) true))) := kk
            refine k_X23_onResource_143 oo (fun q => absurd ((ev 47 (by omega)).mpr c47) q) (fun _ => ?_)
            have rT3 := k3.1.1.1.2
            have sT3 := k3.1.2.1.1
            have tT3 := sT3.1.1
            obtain ⟨-, -, -, -, tv3, -⟩ := k3.rd oy3
            refine k_X23_onResource_152 (r2 := rT3) oo ?_
            refine tsize_ok sT3 tv3 (by rw [fdp_tn]; omega) ?_
            rw [fsz_tn, fy]
            refine k_X23_onResource_161 oo ?_
            refine k_X23_onResource_165 oo ?_
            rw [nI_add]
            have vs2 := vwv.2.2
            have vsv : vsz v = 1 + fsz v.2.2 := rfl
            unfold mpay at kk
            rw [n3'] at kk
            refine spend_ok t03 k3.2.1.1 gs3 cx3.2.1 ⟨by omega, by omega⟩ (by omega) (fun hle h4 q4 g4 => ?_) (fun hlt h4 q4 x4 => ?_)
            rotate_left
            · rw [if_neg (by omega)] at kk
              refine k_X23_onResource_169 oo (fun q => absurd rfl q) (fun _ => ?_)
              refine k_X23_onResource_172 oo ?_
              exact kk h4 (q03.trans (twq q4 (by decide))) x4
            rw [if_pos (by omega)] at kk
            have k4 := k3.gas q4 g4
            have t04 := k4.t0
            obtain ⟨p1, p2⟩ := k4.1.1.at 13 rfl
            obtain ⟨p3, p4⟩ := k4.1.1.at 12 rfl
            refine k_X23_onResource_169 oo (fun _ => ?_) (fun q => absurd q (by decide))
            refine k_X23_onResource_173 oo (fun q => absurd ((ev 47 (by omega)).mpr c47) q) (fun _ => ?_)
            refine k_X23_onResource_179 (r2 := p1) (r9 := p3) oo ?_
            refine k_X23_onResource_248 oo ?_
            have hx4 : (ens (sG (sK s1' t') (gas s + (10 + (1 + fsz v.2.2)))))[e]? = some x := hx
            have vn : x.2.2.1.2.2.2 = none := by
              rw [hb] at hi3
              cases hc : x.2.2.1.2.2.2 with
              | none => rfl
              | some _ => rw [hc] at hi3; cases hi3
            have oe : o3 (3, 0, e, 0) = none := by
              have := te3.2.2.2
              rw [vn] at this
              exact this.1
            have q5 : Fq (FS enuF) h4 ((h4.sEI 1106 (tx 14) e (nI 1)).sEI 1088 (tx 13) e (nI y.1)) := Fq.sEI (Fq.sEI (Fq.refl h4) (fsr rfl)) (fsr rfl)
            have tk4 : TKE h4 o3 tx e x := k4.2.2.2.2.1 e x hx4
            have k5 := TK.enr (x' := cEn (true, x.2.2.1.2.1, x.2.2.1.2.2.1, some v) true x) k4 hx4 q5 (fun f a p hp => ⟨by simp [n_sI, z_sI, tag_sI, I_sI, J_sI, R_sI, EI_sI, EJ_sI, ER_sI, n_sJ, z_sJ, tag_sJ, I_sJ, J_sJ, R_sJ, EI_sJ, EJ_sJ, ER_sJ, n_sR, z_sR, tag_sR, I_sR, J_sR, R_sR, EI_sR, EJ_sR, ER_sR, n_sEI, z_sEI, tag_sEI, I_sEI, J_sEI, R_sEI, EI_sEI, EJ_sEI, ER_sEI, n_sEJ, z_sEJ, tag_sEJ, I_sEJ, J_sEJ, R_sEJ, EI_sEJ, EJ_sEJ, ER_sEJ, n_sER, z_sER, tag_sER, I_sER, J_sER, R_sER, EI_sER, EJ_sER, ER_sER, n_nw, z_nw, tag_nw, I_nw, J_nw, R_nw, EI_nw, EJ_nw, ER_nw, hp], by simp [n_sI, z_sI, tag_sI, I_sI, J_sI, R_sI, EI_sI, EJ_sI, ER_sI, n_sJ, z_sJ, tag_sJ, I_sJ, J_sJ, R_sJ, EI_sJ, EJ_sJ, ER_sJ, n_sR, z_sR, tag_sR, I_sR, J_sR, R_sR, EI_sR, EJ_sR, ER_sR, n_sEI, z_sEI, tag_sEI, I_sEI, J_sEI, R_sEI, EI_sEI, EJ_sEI, ER_sEI, n_sEJ, z_sEJ, tag_sEJ, I_sEJ, J_sEJ, R_sEJ, EI_sEJ, EJ_sEJ, ER_sEJ, n_sER, z_sER, tag_sER, I_sER, J_sER, R_sER, EI_sER, EJ_sER, ER_sER, n_nw, z_nw, tag_nw, I_nw, J_nw, R_nw, EI_nw, EJ_nw, ER_nw]⟩) (uO (uO o3 (5, 0, 0, 0) none) (3, 0, e, 0) (some y)) (k4.1.2.mov oy3) (fun p p5 p3 => by rw [uO_n p3, uO_n (fun z => p5 (by rw [z]))]) (fun q hq a ha => by
              have hne : rsl' 0 q.1 ≠ (3, 0, e, 0) := fun z => by
                unfold rad at ha
                rw [z, oe] at ha; cases ha
              unfold rad at ha ⊢
              rw [uO_n hne, uO_n (fun z => rsl_5 (by rw [z]))]; exact ha) (by
              obtain ⟨⟨a1, a2, a3, a4⟩, a5, a6, a7⟩ := tk4
              refine ⟨⟨by rw [q5.1.EI (FS.n (by decide))]; exact a1, by rw [q5.1.EJ (FS.n (by decide))]; exact a2, by rw [q5.1.EI (FS.n (by decide))]; exact a3, a4⟩, fun _ => by simp [n_sI, z_sI, tag_sI, I_sI, J_sI, R_sI, EI_sI, EJ_sI, ER_sI, n_sJ, z_sJ, tag_sJ, I_sJ, J_sJ, R_sJ, EI_sJ, EJ_sJ, ER_sJ, n_sR, z_sR, tag_sR, I_sR, J_sR, R_sR, EI_sR, EJ_sR, ER_sR, n_sEI, z_sEI, tag_sEI, I_sEI, J_sEI, R_sEI, EI_sEI, EJ_sEI, ER_sEI, n_sEJ, z_sEJ, tag_sEJ, I_sEJ, J_sEJ, R_sEJ, EI_sEJ, EJ_sEJ, ER_sEJ, n_sER, z_sER, tag_sER, I_sER, J_sER, R_sER, EI_sER, EJ_sER, ER_sER, n_nw, z_nw, tag_nw, I_nw, J_nw, R_nw, EI_nw, EJ_nw, ER_nw, cEn]; rfl, fun z => ?_, y, uO_s, by simp [n_sI, z_sI, tag_sI, I_sI, J_sI, R_sI, EI_sI, EJ_sI, ER_sI, n_sJ, z_sJ, tag_sJ, I_sJ, J_sJ, R_sJ, EI_sJ, EJ_sJ, ER_sJ, n_sR, z_sR, tag_sR, I_sR, J_sR, R_sR, EI_sR, EJ_sR, ER_sR, n_sEI, z_sEI, tag_sEI, I_sEI, J_sEI, R_sEI, EI_sEI, EJ_sEI, ER_sEI, n_sEJ, z_sEJ, tag_sEJ, I_sEJ, J_sEJ, R_sEJ, EI_sEJ, EJ_sEJ, ER_sEJ, n_sER, z_sER, tag_sER, I_sER, J_sER, R_sER, EI_sER, EJ_sER, ER_sER, n_nw, z_nw, tag_nw, I_nw, J_nw, R_nw, EI_nw, EJ_nw, ER_nw], hy⟩
              have z : x.1.1 = 1 := z
              omega)
            have es : sE (sG (sK s1' t') (gas s + (10 + (1 + fsz v.2.2)))) ((ens (sG (sK s1' t') (gas s + (10 + (1 + fsz v.2.2))))).set e (cEn (true, x.2.2.1.2.1, x.2.2.1.2.2.1, some v) true x)) = sEn (sK (sG s1' (gas s + (10 + vsz v))) t') e (cEn (true, x.2.2.1.2.1, x.2.2.1.2.2.1, some v) true) := by
              rw [sEn_s (s := sK (sG s1' (gas s + (10 + vsz v))) t') hx]; rfl
            rw [es] at k5
            refine kk _ _ n3 (q03.trans ((twq q4 (by decide)).trans (twq q5 (by decide)))) k5 (fun a b c => ?_) ?_
            · rw [uO_n (by intro e; cases e)]
              by_cases ee : ((5, a, b, c) : Sl) = (5, 0, 0, 0)
              · rw [ee, uO_s]
              · rw [uO_n ee, c3, uO_n ee, uO_n (by intro e; cases e)]; exact t5 a b c
            · rw [← es]
              show n3 ≤ (gas s + (10 + (1 + fsz v.2.2))) + 64 * ((ens s1').set e _).length + 8
              rw [List.length_set]; omega
        rw [if_neg c47, if_neg c49] at kk hne
        refine to143 false (by simpa using c47) (fun hb => ?_) (fun hb => ?_)
        · rw [hb] at kk
          exact stop kk
        have hb : x.2.2.1.1 = true := by simpa using hb
        obtain ⟨w', hw'⟩ : ∃ w', x.2.2.1.2.2.2 = some w' := by
          rw [hb] at hi3
          cases hc : x.2.2.1.2.2.2 with
          | none => rw [hc] at hi3; cases hi3
          | some w' => exact ⟨w', rfl⟩
        have kk : RZT K h A tx UX at' (mpay lim 10 s1' fun s => if op = 48 then (match x.2.2.1.2.2.2 with
          | some w => mre (nrr s (0, e)) (mgo (sEn (sK s (.inl w :: t')) e (cEn (false, x.2.2.1.2.1, x.2.2.1.2.2.1, none) true)))
          | none => none)
          else mgo (sEn (sK s (.inr ((0, e), []) :: t')) e (cEn x.2.2.1 (op == 51)))) := by
          rw [hb] at kk; exact kk
        have hne : (mpay lim 10 s1' fun s => if op = 48 then (match x.2.2.1.2.2.2 with
          | some w => mre (nrr s (0, e)) (mgo (sEn (sK s (.inl w :: t')) e (cEn (false, x.2.2.1.2.1, x.2.2.1.2.2.1, none) true)))
          | none => none)
          else mgo (sEn (sK s (.inr ((0, e), []) :: t')) e (cEn x.2.2.1 (op == 51)))) ≠ none := by
          rw [hb] at hne; exact hne
        refine k_X23_onResource_143 oo (fun _ => ?_) (fun q => (no 47 (by omega) c47 q).elim)
        refine k_X23_onResource_164 oo ?_
        refine k_X23_onResource_165 oo ?_
        rw [nI_add]
        unfold mpay at kk hne
        rw [n3'] at kk hne
        refine spend_ok t03 k3.2.1.1 gs3 cx3.2.1 ⟨by omega, by omega⟩ (by omega) (fun hle h4 q4 g4 => ?_) (fun hlt h4 q4 x4 => ?_)
        rotate_left
        · rw [if_neg (by omega)] at kk
          refine k_X23_onResource_169 oo (fun q => absurd rfl q) (fun _ => ?_)
          refine k_X23_onResource_172 oo ?_
          exact kk h4 (q03.trans (twq q4 (by decide))) x4
        rw [if_pos (by omega)] at kk hne
        have k4 := (k3.gas q4 g4).cl
        have t04 := k4.t0
        have hx4 : (ens (sG (sK s1' t') (gas s + (10 + 0))))[e]? = some x := hx
        have tk4 : TKE h4 (clr o3) tx e x := k4.2.2.2.2.1 e x hx4
        obtain ⟨⟨a1, a2, a3, a4⟩, a5, a6, a7⟩ := id tk4
        rw [hw'] at a7
        obtain ⟨yw, ow, aw, ew⟩ := a7
        obtain ⟨p3, p4⟩ := k4.1.1.at 12 rfl
        refine k_X23_onResource_169 oo (fun _ => ?_) (fun q => absurd q (by decide))
        refine k_X23_onResource_173 oo (fun _ => ?_) (fun q => (no 47 (by omega) c47 q).elim)
        by_cases c48 : op = 48
        · simp only [if_pos c48, hw'] at kk hne
          obtain ⟨hnr, he2⟩ := mre_n hne
          rw [he2] at kk
          have hnr' := nrr_i hnr
          refine k_X23_onResource_199 oo (fun q => absurd ((ev 48 (by omega)).mpr c48) q) (fun _ => ?_)
          refine k_X23_onResource_205 (r2 := p3) (r8 := aw) oo ?_
          -- the entry's value goes aside, then onto the stack
          have rk : ∀ q ∈ rfs (sG (sK s1' t') (gas s + (10 + 0))), q.1 ≠ (0, e) := fun q hq => by
            obtain ⟨jj, j1, j2⟩ := List.mem_flatMap.mp hq
            have j1 : jj < s1'.1 := List.mem_range.mp j1
            have j2 : q ∈ rfF ((sK s1' t').2.1 jj) := j2
            refine hnr' q (rfs_l (s := sG s1' (gas s + 10)) (j := jj) j1 ?_)
            show q ∈ rfF (s1'.2.1 jj)
            by_cases e : jj = s1'.1 - 1
            · have ef : (sK s1' t').2.1 jj = ((tpf s1').1, (tpf s1').2.1, (tpf s1').2.2.1, t') := by rw [e]; exact uF_s
              rw [ef] at j2
              have es1 : stk s1' = .inl v :: t' := by
                have : stk s1' = stk s := by
                  show (s1'.2.1 (s1'.1 - 1)).2.2.2 = (s.2.1 (s.1 - 1)).2.2.2
                  rw [n2, n1]
                rw [this]; exact hs
              rw [e]
              show q ∈ rfF (tpf s1')
              rcases List.mem_append.mp j2 with z | z
              · refine List.mem_append_left _ ?_
                show q ∈ (stk s1').flatMap rfI
                rw [es1]
                obtain ⟨i, i1, i2⟩ := List.mem_flatMap.mp z
                exact List.mem_flatMap.mpr ⟨i, List.mem_cons_of_mem _ i1, i2⟩
              · exact List.mem_append_right _ z
            · have ef : (sK s1' t').2.1 jj = s1'.2.1 jj := uF_n e
              rw [ef] at j2; exact j2
          have rsk : ∀ q : Rx, q.1 ≠ (0, e) → ∀ o0 : Lc, ∀ y0, rad (uO o0 (3, 0, e, 0) y0) 0 q = rad o0 0 q := fun q hq o0 y0 => rad_u (fun z => hq (by
            obtain ⟨⟨i, m⟩, p⟩ := q
            cases i with
            | zero => have : m = e := congrArg (fun p : Sl => p.2.2.1) z; rw [this]
            | succ j => cases z))
          have e4 := k4.hgt (by show 1 ≤ s1'.1; omega)
          have e41 : bsf (sK s1' t').2.1 s1'.1 = bsf (sK s1' t').2.1 (s1'.1 - 1) + t'.length := by have := e4.1; rw [show stk (sG (sK s1' t') (gas s + (10 + 0))) = t' from stl] at this; exact this
          have e42 : bsf (sK s1' t').2.1 s1'.1 ≤ 2048 := e4.2.1
          have e44 : TKS h4 (clr o3) tx (bsf (sK s1' t').2.1 (s1'.1 - 1)) t' := by have := e4.2.2.2; rw [show stk (sG (sK s1' t') (gas s + (10 + 0))) = t' from stl] at this; exact this
          obtain ⟨f1, f2⟩ := k4.1.1.at 0 rfl
          obtain ⟨f3, f4⟩ := k4.1.1.at 1 rfl
          have hh4 : h4.I 2861 A = nI (bsf (sK s1' t').2.1 s1'.1) := k4.2.1.2.2.2.1
          generalize hH : bsf (sK s1' t').2.1 s1'.1 = H at *
          refine rpush_ok (b := false) t04 k4.2.1.1 hh4 (by omega) f1 f2 f3 f4 (by omega) ?_
          obtain ⟨p1, p2⟩ := k4.1.1.at 13 rfl
          have t05 : (((h4.sEI 1216 (tx 1) H (nI yw.1)).sEI 1234 (tx 2) H (bI false)).sI 2861 A (nI (H + 1))).tag A = some (22, 0) := t04
          have p15 : (((h4.sEI 1216 (tx 1) H (nI yw.1)).sEI 1234 (tx 2) H (bI false)).sI 2861 A (nI (H + 1))).R 2851 A = some (tx 14) := p1
          have p25 : (((h4.sEI 1216 (tx 1) H (nI yw.1)).sEI 1234 (tx 2) H (bI false)).sI 2861 A (nI (H + 1))).tag (tx 14) = some (1106, 24) := p2
          have p35 : (((h4.sEI 1216 (tx 1) H (nI yw.1)).sEI 1234 (tx 2) H (bI false)).sI 2861 A (nI (H + 1))).R 2850 A = some (tx 13) := p3
          have p45 : (((h4.sEI 1216 (tx 1) H (nI yw.1)).sEI 1234 (tx 2) H (bI false)).sI 2861 A (nI (H + 1))).tag (tx 13) = some (1088, 24) := p4
          refine k_X23_onResource_217 (r2 := p15) (r9 := p35) oo ?_
          refine k_X23_onResource_248 oo ?_
          -- first the entry
          have q5 : Fq (FS enuF) h4 ((h4.sEI 1106 (tx 14) e (nI 0)).sEI 1088 (tx 13) e (-1)) := Fq.sEI (Fq.sEI (Fq.refl h4) (fsr rfl)) (fsr rfl)
          have k5 := TK.enr (x' := cEn (false, x.2.2.1.2.1, x.2.2.1.2.2.1, none) true x) k4 hx4 q5 (fun f a p hp => ⟨by simp [n_sI, z_sI, tag_sI, I_sI, J_sI, R_sI, EI_sI, EJ_sI, ER_sI, n_sJ, z_sJ, tag_sJ, I_sJ, J_sJ, R_sJ, EI_sJ, EJ_sJ, ER_sJ, n_sR, z_sR, tag_sR, I_sR, J_sR, R_sR, EI_sR, EJ_sR, ER_sR, n_sEI, z_sEI, tag_sEI, I_sEI, J_sEI, R_sEI, EI_sEI, EJ_sEI, ER_sEI, n_sEJ, z_sEJ, tag_sEJ, I_sEJ, J_sEJ, R_sEJ, EI_sEJ, EJ_sEJ, ER_sEJ, n_sER, z_sER, tag_sER, I_sER, J_sER, R_sER, EI_sER, EJ_sER, ER_sER, n_nw, z_nw, tag_nw, I_nw, J_nw, R_nw, EI_nw, EJ_nw, ER_nw, hp], by simp [n_sI, z_sI, tag_sI, I_sI, J_sI, R_sI, EI_sI, EJ_sI, ER_sI, n_sJ, z_sJ, tag_sJ, I_sJ, J_sJ, R_sJ, EI_sJ, EJ_sJ, ER_sJ, n_sR, z_sR, tag_sR, I_sR, J_sR, R_sR, EI_sR, EJ_sR, ER_sR, n_sEI, z_sEI, tag_sEI, I_sEI, J_sEI, R_sEI, EI_sEI, EJ_sEI, ER_sEI, n_sEJ, z_sEJ, tag_sEJ, I_sEJ, J_sEJ, R_sEJ, EI_sEJ, EJ_sEJ, ER_sEJ, n_sER, z_sER, tag_sER, I_sER, J_sER, R_sER, EI_sER, EJ_sER, ER_sER, n_nw, z_nw, tag_nw, I_nw, J_nw, R_nw, EI_nw, EJ_nw, ER_nw]⟩) (uO (uO (clr o3) (3, 0, e, 0) none) (5, 0, 0, 0) (some yw)) (k4.1.2.mov ow) (fun p p5 p3 => by rw [uO_n (fun z => p5 (by rw [z])), uO_n p3]) (fun q hq a ha => by
            rw [rad_u (fun z => rsl_5 (by rw [z])), rsk q (rk q hq)]; exact ha) (by
            refine ⟨⟨by rw [q5.1.EI (FS.n (by decide))]; exact a1, by rw [q5.1.EJ (FS.n (by decide))]; exact a2, by rw [q5.1.EI (FS.n (by decide))]; exact a3, a4⟩, fun _ => by simp [n_sI, z_sI, tag_sI, I_sI, J_sI, R_sI, EI_sI, EJ_sI, ER_sI, n_sJ, z_sJ, tag_sJ, I_sJ, J_sJ, R_sJ, EI_sJ, EJ_sJ, ER_sJ, n_sR, z_sR, tag_sR, I_sR, J_sR, R_sR, EI_sR, EJ_sR, ER_sR, n_sEI, z_sEI, tag_sEI, I_sEI, J_sEI, R_sEI, EI_sEI, EJ_sEI, ER_sEI, n_sEJ, z_sEJ, tag_sEJ, I_sEJ, J_sEJ, R_sEJ, EI_sEJ, EJ_sEJ, ER_sEJ, n_sER, z_sER, tag_sER, I_sER, J_sER, R_sER, EI_sER, EJ_sER, ER_sER, n_nw, z_nw, tag_nw, I_nw, J_nw, R_nw, EI_nw, EJ_nw, ER_nw, cEn]; rfl, fun z => ?_, by rw [uO_n (by intro e; cases e), uO_s], by simp [n_sI, z_sI, tag_sI, I_sI, J_sI, R_sI, EI_sI, EJ_sI, ER_sI, n_sJ, z_sJ, tag_sJ, I_sJ, J_sJ, R_sJ, EI_sJ, EJ_sJ, ER_sJ, n_sR, z_sR, tag_sR, I_sR, J_sR, R_sR, EI_sR, EJ_sR, ER_sR, n_sEI, z_sEI, tag_sEI, I_sEI, J_sEI, R_sEI, EI_sEI, EJ_sEI, ER_sEI, n_sEJ, z_sEJ, tag_sEJ, I_sEJ, J_sEJ, R_sEJ, EI_sEJ, EJ_sEJ, ER_sEJ, n_sER, z_sER, tag_sER, I_sER, J_sER, R_sER, EI_sER, EJ_sER, ER_sER, n_nw, z_nw, tag_nw, I_nw, J_nw, R_nw, EI_nw, EJ_nw, ER_nw]⟩
            have z : x.1.1 = 1 := z
            omega)
          have th6 : TH h4 (tx 0) n3 (uO (uO (uO (uO (clr o3) (3, 0, e, 0) none) (5, 0, 0, 0) (some yw)) (5, 0, 0, 0) none) (1, 0, 0, H) (some yw)) := (k4.1.2.mov (q := (5, 0, 0, 0)) ow).mov uO_s
          have q6 : Fq (FS (psF ++ enuF)) h4 (((((h4.sEI 1216 (tx 1) H (nI yw.1)).sEI 1234 (tx 2) H (bI false)).sI 2861 A (nI (H + 1))).sEI 1106 (tx 14) e (nI 0)).sEI 1088 (tx 13) e (-1)) := Fq.sEI (Fq.sEI (Fq.sI (Fq.sEI (Fq.sEI (Fq.refl h4) (fsr rfl)) (fsr rfl)) (fsr rfl)) (fsr rfl)) (fsr rfl)
          have bb : bsf (sE (sG (sK s1' t') (gas s + (10 + 0))) ((ens (sG (sK s1' t') (gas s + (10 + 0)))).set e (cEn (false, x.2.2.1.2.1, x.2.2.1.2.2.1, none) true x))).2.1 ((sE (sG (sK s1' t') (gas s + (10 + 0))) ((ens (sG (sK s1' t') (gas s + (10 + 0)))).set e (cEn (false, x.2.2.1.2.1, x.2.2.1.2.2.1, none) true x))).1 - 1) = bsf (sK s1' t').2.1 (s1'.1 - 1) := rfl
          have o1n : ∀ p, p ≠ H → uO (uO (uO (uO (clr o3) (3, 0, e, 0) none) (5, 0, 0, 0) (some yw)) (5, 0, 0, 0) none) (1, 0, 0, H) (some yw) (1, 0, 0, p) = uO (uO (clr o3) (3, 0, e, 0) none) (5, 0, 0, 0) (some yw) (1, 0, 0, p) := fun p hp => by
            rw [uO_n (fun z => hp (congrArg (fun p : Sl => p.2.2.2) z)), uO_n (by intro e; cases e)]
          have o1c : ∀ p, p ≠ H → uO (uO (uO (uO (clr o3) (3, 0, e, 0) none) (5, 0, 0, 0) (some yw)) (5, 0, 0, 0) none) (1, 0, 0, H) (some yw) (1, 0, 0, p) = clr o3 (1, 0, 0, p) := fun p hp => by
            rw [o1n p hp, uO_n (by intro e; cases e), uO_n (by intro e; cases e)]
          have ho23 : ∀ c a b e', c = 2 ∨ c = 3 → uO (uO (uO (uO (clr o3) (3, 0, e, 0) none) (5, 0, 0, 0) (some yw)) (5, 0, 0, 0) none) (1, 0, 0, H) (some yw) (c, a, b, e') = uO (uO (clr o3) (3, 0, e, 0) none) (5, 0, 0, 0) (some yw) (c, a, b, e') := fun c a b e' hc => by
            rw [uO_n (fun z => by have : c = 1 := congrArg (fun p : Sl => p.1) z; omega), uO_n (fun z => by have : c = 5 := congrArg (fun p : Sl => p.1) z; omega)]
          have k6 := TK.top (l := .inl w' :: t') (h' := ((((h4.sEI 1216 (tx 1) H (nI yw.1)).sEI 1234 (tx 2) H (bI false)).sI 2861 A (nI (H + 1))).sEI 1106 (tx 14) e (nI 0)).sEI 1088 (tx 13) e (-1)) (o' := uO (uO (uO (uO (clr o3) (3, 0, e, 0) none) (5, 0, 0, 0) (some yw)) (5, 0, 0, 0) none) (1, 0, 0, H) (some yw)) (by show 1 ≤ s1'.1; omega) k5 (k4.1.1.fr q6.1 (FS.no (by decide))) (fun _ _ => th6.fr q6.1 (FS.no (by decide))) (fun f hf => by
            rw [q6.1.I (FS.n (by
              simp only [List.mem_cons, List.mem_nil_iff, or_false] at hf
              rcases hf with e | e | e | e <;> (rw [e]; decide))), q5.1.I (FS.n (by
              simp only [List.mem_cons, List.mem_nil_iff, or_false] at hf
              rcases hf with e | e | e | e <;> (rw [e]; decide)))]) (by
            rw [bb]
            have : bsf (sK s1' t').2.1 (s1'.1 - 1) + (.inl w' :: t' : List It).length = H + 1 := by show _ + (t'.length + 1) = _; omega
            rw [this]; simp [n_sI, z_sI, tag_sI, I_sI, J_sI, R_sI, EI_sI, EJ_sI, ER_sI, n_sJ, z_sJ, tag_sJ, I_sJ, J_sJ, R_sJ, EI_sJ, EJ_sJ, ER_sJ, n_sR, z_sR, tag_sR, I_sR, J_sR, R_sR, EI_sR, EJ_sR, ER_sR, n_sEI, z_sEI, tag_sEI, I_sEI, J_sEI, R_sEI, EI_sEI, EJ_sEI, ER_sEI, n_sEJ, z_sEJ, tag_sEJ, I_sEJ, J_sEJ, R_sEJ, EI_sEJ, EJ_sEJ, ER_sEJ, n_sER, z_sER, tag_sER, I_sER, J_sER, R_sER, EI_sER, EJ_sER, ER_sER, n_nw, z_nw, tag_nw, I_nw, J_nw, R_nw, EI_nw, EJ_nw, ER_nw]) (by show t'.length + 1 ≤ 64; omega) (fun p hp => by
            rw [bb] at hp
            exact ⟨by simp [n_sI, z_sI, tag_sI, I_sI, J_sI, R_sI, EI_sI, EJ_sI, ER_sI, n_sJ, z_sJ, tag_sJ, I_sJ, J_sJ, R_sJ, EI_sJ, EJ_sJ, ER_sJ, n_sR, z_sR, tag_sR, I_sR, J_sR, R_sR, EI_sR, EJ_sR, ER_sR, n_sEI, z_sEI, tag_sEI, I_sEI, J_sEI, R_sEI, EI_sEI, EJ_sEI, ER_sEI, n_sEJ, z_sEJ, tag_sEJ, I_sEJ, J_sEJ, R_sEJ, EI_sEJ, EJ_sEJ, ER_sEJ, n_sER, z_sER, tag_sER, I_sER, J_sER, R_sER, EI_sER, EJ_sER, ER_sER, n_nw, z_nw, tag_nw, I_nw, J_nw, R_nw, EI_nw, EJ_nw, ER_nw, show p ≠ H by omega], by simp [n_sI, z_sI, tag_sI, I_sI, J_sI, R_sI, EI_sI, EJ_sI, ER_sI, n_sJ, z_sJ, tag_sJ, I_sJ, J_sJ, R_sJ, EI_sJ, EJ_sJ, ER_sJ, n_sR, z_sR, tag_sR, I_sR, J_sR, R_sR, EI_sR, EJ_sR, ER_sR, n_sEI, z_sEI, tag_sEI, I_sEI, J_sEI, R_sEI, EI_sEI, EJ_sEI, ER_sEI, n_sEJ, z_sEJ, tag_sEJ, I_sEJ, J_sEJ, R_sEJ, EI_sEJ, EJ_sEJ, ER_sEJ, n_sER, z_sER, tag_sER, I_sER, J_sER, R_sER, EI_sER, EJ_sER, ER_sER, n_nw, z_nw, tag_nw, I_nw, J_nw, R_nw, EI_nw, EJ_nw, ER_nw, show p ≠ H by omega], o1n p (by omega)⟩) (by
            rw [bb]
            refine ⟨?_, e44.kp (fun p _ p2 => ⟨by simp [n_sI, z_sI, tag_sI, I_sI, J_sI, R_sI, EI_sI, EJ_sI, ER_sI, n_sJ, z_sJ, tag_sJ, I_sJ, J_sJ, R_sJ, EI_sJ, EJ_sJ, ER_sJ, n_sR, z_sR, tag_sR, I_sR, J_sR, R_sR, EI_sR, EJ_sR, ER_sR, n_sEI, z_sEI, tag_sEI, I_sEI, J_sEI, R_sEI, EI_sEI, EJ_sEI, ER_sEI, n_sEJ, z_sEJ, tag_sEJ, I_sEJ, J_sEJ, R_sEJ, EI_sEJ, EJ_sEJ, ER_sEJ, n_sER, z_sER, tag_sER, I_sER, J_sER, R_sER, EI_sER, EJ_sER, ER_sER, n_nw, z_nw, tag_nw, I_nw, J_nw, R_nw, EI_nw, EJ_nw, ER_nw, show p ≠ H by omega], by simp [n_sI, z_sI, tag_sI, I_sI, J_sI, R_sI, EI_sI, EJ_sI, ER_sI, n_sJ, z_sJ, tag_sJ, I_sJ, J_sJ, R_sJ, EI_sJ, EJ_sJ, ER_sJ, n_sR, z_sR, tag_sR, I_sR, J_sR, R_sR, EI_sR, EJ_sR, ER_sR, n_sEI, z_sEI, tag_sEI, I_sEI, J_sEI, R_sEI, EI_sEI, EJ_sEI, ER_sEI, n_sEJ, z_sEJ, tag_sEJ, I_sEJ, J_sEJ, R_sEJ, EI_sEJ, EJ_sEJ, ER_sEJ, n_sER, z_sER, tag_sER, I_sER, J_sER, R_sER, EI_sER, EJ_sER, ER_sER, n_nw, z_nw, tag_nw, I_nw, J_nw, R_nw, EI_nw, EJ_nw, ER_nw, show p ≠ H by omega], o1c p (by omega)⟩) (fun r hm a ha => ?_)⟩
            · rw [show bsf (sK s1' t').2.1 (s1'.1 - 1) + t'.length = H by omega]
              exact ⟨yw, uO_s, ew, by simp [n_sI, z_sI, tag_sI, I_sI, J_sI, R_sI, EI_sI, EJ_sI, ER_sI, n_sJ, z_sJ, tag_sJ, I_sJ, J_sJ, R_sJ, EI_sJ, EJ_sJ, ER_sJ, n_sR, z_sR, tag_sR, I_sR, J_sR, R_sR, EI_sR, EJ_sR, ER_sR, n_sEI, z_sEI, tag_sEI, I_sEI, J_sEI, R_sEI, EI_sEI, EJ_sEI, ER_sEI, n_sEJ, z_sEJ, tag_sEJ, I_sEJ, J_sEJ, R_sEJ, EI_sEJ, EJ_sEJ, ER_sEJ, n_sER, z_sER, tag_sER, I_sER, J_sER, R_sER, EI_sER, EJ_sER, ER_sER, n_nw, z_nw, tag_nw, I_nw, J_nw, R_nw, EI_nw, EJ_nw, ER_nw], by simp [n_sI, z_sI, tag_sI, I_sI, J_sI, R_sI, EI_sI, EJ_sI, ER_sI, n_sJ, z_sJ, tag_sJ, I_sJ, J_sJ, R_sJ, EI_sJ, EJ_sJ, ER_sJ, n_sR, z_sR, tag_sR, I_sR, J_sR, R_sR, EI_sR, EJ_sR, ER_sR, n_sEI, z_sEI, tag_sEI, I_sEI, J_sEI, R_sEI, EI_sEI, EJ_sEI, ER_sEI, n_sEJ, z_sEJ, tag_sEJ, I_sEJ, J_sEJ, R_sEJ, EI_sEJ, EJ_sEJ, ER_sEJ, n_sER, z_sER, tag_sER, I_sER, J_sER, R_sER, EI_sER, EJ_sER, ER_sER, n_nw, z_nw, tag_nw, I_nw, J_nw, R_nw, EI_nw, EJ_nw, ER_nw]; rfl⟩
            · rw [rad_u rsl_1, rad_u (fun z => rsl_5 (by rw [z])), rad_u (fun z => rsl_5 (by rw [z])), rsk r (rk r (rfs_l (s := sG (sK s1' t') (gas s + (10 + 0))) (j := s1'.1 - 1) (by show s1'.1 - 1 < s1'.1; omega) (by
                have ef : (sK s1' t').2.1 (s1'.1 - 1) = ((tpf s1').1, (tpf s1').2.1, (tpf s1').2.2.1, t') := uF_s
                show r ∈ rfF ((sK s1' t').2.1 (s1'.1 - 1))
                rw [ef]; exact rfF_s hm)))]
              exact ha) (fun f hf a p => by
            simp only [List.mem_cons, List.mem_nil_iff, or_false] at hf
            rcases hf with e | e | e | e | e | e | e | e | e | e <;> (rw [e]; simp [n_sI, z_sI, tag_sI, I_sI, J_sI, R_sI, EI_sI, EJ_sI, ER_sI, n_sJ, z_sJ, tag_sJ, I_sJ, J_sJ, R_sJ, EI_sJ, EJ_sJ, ER_sJ, n_sR, z_sR, tag_sR, I_sR, J_sR, R_sR, EI_sR, EJ_sR, ER_sR, n_sEI, z_sEI, tag_sEI, I_sEI, J_sEI, R_sEI, EI_sEI, EJ_sEI, ER_sEI, n_sEJ, z_sEJ, tag_sEJ, I_sEJ, J_sEJ, R_sEJ, EI_sEJ, EJ_sEJ, ER_sEJ, n_sER, z_sER, tag_sER, I_sER, J_sER, R_sER, EI_sER, EJ_sER, ER_sER, n_nw, z_nw, tag_nw, I_nw, J_nw, R_nw, EI_nw, EJ_nw, ER_nw])) (fun f hf a p => by simp [n_sI, z_sI, tag_sI, I_sI, J_sI, R_sI, EI_sI, EJ_sI, ER_sI, n_sJ, z_sJ, tag_sJ, I_sJ, J_sJ, R_sJ, EI_sJ, EJ_sJ, ER_sJ, n_sR, z_sR, tag_sR, I_sR, J_sR, R_sR, EI_sR, EJ_sR, ER_sR, n_sEI, z_sEI, tag_sEI, I_sEI, J_sEI, R_sEI, EI_sEI, EJ_sEI, ER_sEI, n_sEJ, z_sEJ, tag_sEJ, I_sEJ, J_sEJ, R_sEJ, EI_sEJ, EJ_sEJ, ER_sEJ, n_sER, z_sER, tag_sER, I_sER, J_sER, R_sER, EI_sER, EJ_sER, ER_sER, n_nw, z_nw, tag_nw, I_nw, J_nw, R_nw, EI_nw, EJ_nw, ER_nw]) ho23 (fun p hp => by
            rw [bb] at hp
            have hp : bsf (sK s1' t').2.1 (s1'.1 - 1) + (t'.length + 1) ≤ p := hp
            rw [o1c p (by omega)]
            exact k4.2.2.2.2.2.1 p (by show bsf (sK s1' t').2.1 s1'.1 ≤ p; omega))
          have es : sK (sE (sG (sK s1' t') (gas s + (10 + 0))) ((ens (sG (sK s1' t') (gas s + (10 + 0)))).set e (cEn (false, x.2.2.1.2.1, x.2.2.1.2.2.1, none) true x))) (.inl w' :: t') = sEn (sK (sG s1' (gas s + 10)) (.inl w' :: t')) e (cEn (false, x.2.2.1.2.1, x.2.2.1.2.2.1, none) true) := by
            rw [sEn_s (s := sK (sG s1' (gas s + 10)) (.inl w' :: t')) hx]
            show sE (sG (sK (sK s1' t') (.inl w' :: t')) (gas s + (10 + 0))) _ = _
            rw [sK_K]; rfl
          rw [es] at k6
          refine kk _ _ n3 (q03.trans ((twq q4 (by decide)).trans (twq q6 (by decide)))) k6 (fun a b c => ?_) ?_
          · rw [uO_n (by intro e; cases e)]
            by_cases ee : ((5, a, b, c) : Sl) = (5, 0, 0, 0)
            · rw [ee, uO_s]
            · rw [uO_n ee, uO_n ee, uO_n (by intro e; cases e)]; exact T5.clr a b c
          · rw [← es]
            show n3 ≤ (gas s + (10 + 0)) + 64 * ((ens s1').set e _).length + 8
            rw [List.length_set]; omega
        · simp only [if_neg c48] at kk
          refine k_X23_onResource_199 oo (fun _ => ?_) (fun q => (no 48 (by omega) c48 q).elim)
          refine k_X23_onResource_236 (r2 := p3) (r8 := aw) oo ?_
          have hr : rad (clr o3) 0 ((0, e), []) = some yw.1 := by
            unfold rad
            show (match clr o3 (3, 0, e, 0) with | some z => (lva z []).map fun y => y.1 | none => none) = some yw.1
            rw [ow]; rfl
          refine tkpr_ok k4 (by show 1 ≤ s1'.1; omega) (by show (stk (sK s1' t')).length < 64; rw [stl]; omega) hr (by omega) (fun h5 q5 k5 => ?_)
          refine k_X23_onResource_248 oo ?_
          have hx5 : (ens (mpu (sG (sK s1' t') (gas s + (10 + 0))) (.inr ((0, e), []))))[e]? = some x := hx
          have k6 := TK.enr (x' := cEn x.2.2.1 (op == 51) x) k5 hx5 (Fq.refl h5) (fun _ _ _ _ => ⟨rfl, rfl⟩) (clr o3) k5.1.2 (fun _ _ _ => rfl) (fun _ _ _ ha => ha) (k5.2.2.2.2.1 e x hx5)
          have es : sE (mpu (sG (sK s1' t') (gas s + (10 + 0))) (.inr ((0, e), []))) ((ens (mpu (sG (sK s1' t') (gas s + (10 + 0))) (.inr ((0, e), [])))).set e (cEn x.2.2.1 (op == 51) x)) = sEn (sK (sG s1' (gas s + 10)) (.inr ((0, e), []) :: t')) e (cEn x.2.2.1 (op == 51)) := by
            rw [sEn_s (s := sK (sG s1' (gas s + 10)) (.inr ((0, e), []) :: t')) hx]
            show sE (sG (mpu (sK s1' t') (.inr ((0, e), []))) (gas s + (10 + 0))) _ = _
            rw [mpu_K]; rfl
          rw [es] at k6
          refine kk h5 _ n3 (q03.trans ((twq q4 (by decide)).trans (twq q5 (by decide)))) k6 T5.clr ?_
          rw [← es]
          show n3 ≤ (gas s + (10 + 0)) + 64 * ((ens s1').set e _).length + 8
          rw [List.length_set]; omega
      by_cases c47 : op = 47
      · rw [if_pos c47] at v1
        refine k_X23_onResource_8 oo (fun q => absurd ((ev 47 (by omega)).mpr c47) q) (fun _ => ?_)
        refine k_X23_onResource_15 oo ?_
        have tk := tktk_ok (G := X.G) (d := X.d - 1) (sl := 0) (K := kin (V X K 21) K [.ref A, .int (nI op), .int (nI kx), .int (nI (256 * m.1 + kx)), nov, nov] []) k h1 hs (t5 0 0 0) (by omega) (by omega) (fun h2 y q2 hy k2 => ?_)
        · rw [v1] at tk; exact tk
        refine k_X23_onResource_21 oo ?_
        exact main h2 y q2 hy k2
      · rw [if_neg c47] at v1
        refine k_X23_onResource_8 oo (fun _ => ?_) (fun q => (no 47 (by omega) c47 q).elim)
        refine k_X23_onResource_24 oo ?_
        have tk := tktk_ok (G := X.G) (d := X.d - 1) (sl := 0) (K := kin (V X K 29) K [.ref A, .int (nI op), .int (nI kx), .int (nI (256 * m.1 + kx)), nov, nov] []) k h1 hs (t5 0 0 0) (by omega) (by omega) (fun h2 y q2 hy k2 => ?_)
        · rw [v1] at tk; exact tk
        exact main h2 y q2 hy k2
end
