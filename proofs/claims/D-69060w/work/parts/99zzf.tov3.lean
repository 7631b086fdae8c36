/-! what a transaction has left becomes the state: the second loop -/
section
variable {G : Gt} {B d : Nat} {h : AH} {l : List Nat} {o : Lc} {A q X SA LA t : Nat} {MA : Ma} {K : Outcome → AH → Prop} {S0 ls : Lw}
/-- the second loop at k -/
def TO2 (G : Gt) (B : Nat) (h0 : AH) (o0 : Lc) (q SA LA t : Nat) (MA : Ma) (S0 ls : Lw) (k : Nat) (h : AH) (l : List Nat) (o : Lc) : Prop := Fr (PTo SA LA) h0 h ∧ VH G B h q l o ∧ EtR h o 0 0 SA 256 MA ((ls.take k).foldl tk2 S0) ∧ EtP h LA 30 (ls.map fun x => x.1) ∧ (∀ (e : Nat) (x : Pc × Cn × Bool), k ≤ e → (ls)[e]? = some x → EtR1 h o 4 t LA e MA x) ∧ (∀ e, e < k ∨ ls.length ≤ e → o (4, t, e, 0) = none) ∧ STO h SA ((ls.take k).foldl tk2 S0) ∧ (∀ p : Sl, ¬ (p.1 = 0 ∧ p.2.1 = 0 ∧ p.2.2.2 = 0) → ¬ (p.1 = 4 ∧ p.2.1 = t ∧ p.2.2.2 = 0) → o p = o0 p) ∧ ∀ p z, o p = some z → (∃ r, o0 r = some z) ∧ h.R 3718 z.1 = h0.R 3718 z.1
theorem PTo.et {SA LA : Nat} (far : LA + 32 ≤ SA ∨ SA + 258 ≤ LA) {i : Nat} (hi : i < 256) : ∀ f a, PS1 SA i f a → LA ≤ a → a < LA + 32 → False := fun f a z h1 h2 => by
  rcases z with ⟨-, z⟩ | ⟨-, z⟩ <;> omega
/-- one of those that a transaction has left -/
theorem tov_one {XX : Xt} (oo : OK e_X1_takeOver XX) {k : Nat} {x : Pc × Cn × Bool} {h1 : AH} {l1 : List Nat} {o1 : Lc} {v3 v4 : Value} (t0 : h.tag A = some (0, 0)) (rq : h.R 2 A = some q) (rS : h.R 1 A = some SA) (tX : h.tag X = some (21, 0)) (rL : h.R 2705 X = some LA) (far : LA + 32 ≤ SA ∨ SA + 258 ≤ LA) (hd : 44 ≤ XX.d) (hx : (ls)[k]? = some x) (hv : ∀ x ∈ ls, ∀ v, x.2.1.2.2.2 = some v → (x.1.1 < 4 ∧ x.2.1.1 = true) ∧ fdp v.2.2 ≤ 40) (hl : (ls.foldl tk2 S0).length ≤ 256) (r : TO2 XX.G B h o q SA LA t MA S0 ls k h1 l1 o1) (k256 : ¬ (x.1.1 < 4 ∧ x.2.1.1 = true) → TO2 XX.G B h o q SA LA t MA S0 ls (k + 1) h1 l1 o1 → ∀ v3 v4, V XX K 256 [.ref A, .ref X, .int (nI k), v3, v4] [] h1) (k240 : x.1.1 < 4 → ∀ h2 l2 o2 v4, TO2 XX.G B h o q SA LA t MA S0 ls (k + 1) h2 l2 o2 → h2.tag (LA + 2 + k) = some (9, 0) → h2.I 1152 (LA + 2 + k) = nI x.1.1 → V XX K 240 [.ref A, .ref X, .int (nI k), .ref (LA + 2 + k), v4] [] h2) : V XX K 96 [.ref A, .ref X, .int (nI k), v3, v4] [] h1 := by
  obtain ⟨f1, v1, e1, ep, en, on, sto, c1, c2⟩ := id r
  obtain ⟨⟨⟨s1, s2, s3⟩, s4⟩, ⟨s5, s6, s7⟩, s8⟩ := id ep
  rw [List.length_map] at s5 s6
  have no := PTo.no (SA := SA) (LA := LA) (l := [2, 1, 2705]) rfl
  have t1 := f1.tag t0
  have tX1 := f1.tag tX
  have rL1 : h1.R 2705 X = some LA := by rw [f1.R (no _ _ rfl)]; exact rL
  have rS1 : h1.R 1 A = some SA := by rw [f1.R (no _ _ rfl)]; exact rS
  have rq1 : h1.R 2 A = some q := by rw [f1.R (no _ _ rfl)]; exact rq
  have hlt : k < ls.length := get_lt hx
  have xm := List.mem_of_getElem? hx
  obtain ⟨q1, q2⟩ := s4 k (by omega)
  obtain ⟨⟨y1, y2, y3⟩, y4⟩ := s8 k x.1 (by rw [List.getElem?_map, hx]; rfl)
  obtain ⟨⟨x1, x2, x3⟩, ⟨x4, x5⟩, x6⟩ := en k x (Nat.le_refl _) hx
  have ix : IX (nI k) 30 k := IX.mk (by omega) (by omega)
  have ek : (ls.take (k + 1)).foldl tk2 S0 = tk2 ((ls.take k).foldl tk2 S0) x := by
    rw [List.take_add_one, hx, List.foldl_append]; rfl
  have ll : (tk2 ((ls.take k).foldl tk2 S0) x).length ≤ 256 := by
    rw [← ek]
    have : ls.foldl tk2 S0 = (ls.drop (k + 1)).foldl tk2 ((ls.take (k + 1)).foldl tk2 S0) := by
      rw [← List.foldl_append, List.take_append_drop]
    rw [this] at hl
    exact Nat.le_trans tk2_fl hl
  have y16 := y4.1
  refine k_X1_takeOver_96 (r5 := s5) oo (fun c => absurd ((nI_leI (by omega) (by omega)).mp c) (by omega)) (fun _ => ?_)
  -- nothing is taken over
  have skip : ¬ (x.1.1 < 4 ∧ x.2.1.1 = true) → ∀ v3 v4, V XX K 256 [.ref A, .ref X, .int (nI k), v3, v4] [] h1 := fun nn v3 v4 => by
    have e0 : o1 (4, t, k, 0) = none := by
      cases hxv : x.2.1.2.2.2 with
      | none => rw [hxv] at x6; exact x6.1
      | some v => exact absurd (hv x xm v hxv).1 nn
    refine k256 nn ⟨f1, v1, by rw [ek, tk2_s nn]; exact e1, ep, fun e y he hy => en e y (by omega) hy, fun e he => ?_, by rw [ek, tk2_s nn]; exact sto, c1, c2⟩ _ _
    by_cases q : e = k
    · rw [q]; exact e0
    · exact on e (by omega)
  refine k_X1_takeOver_107 (r14 := y1) oo (fun c => ?_) (fun c => ?_)
  rotate_left
  · refine k_X1_takeOver_125 oo ?_
    exact skip (fun q => c ((nI_ltI (by omega) (by omega)).mpr q.1)) _ _
  have k4 : x.1.1 < 4 := (nI_ltI (by omega) (by omega)).mp c
  have tS := e1.1.1.1.1
  refine k_X1_takeOver_128 (r5 := y1) (r7 := y2) (r9 := y3) oo ?_
  refine find_ok e1.1 y4 (by omega) ?_
  rw [fidx_map]
  refine k_X1_takeOver_147 (r2 := x1) oo (fun c => ?_) (fun c => ?_)
  · have xf := bI_0.mp c
    exact skip (fun q => by rw [xf] at q; cases q.2) _ _
  have xt : x.2.1.1 = true := by
    cases hb : x.2.1.1 with
    | true => rfl
    | false => rw [hb] at c; exact absurd rfl c
  -- behind the taking over
  have aft : ∀ i h2 l2 o2, i < 256 → (∃ h0', Fr (PS1 SA i) h1 h0' ∧ Fr (fun f a => VQ f a ∨ PS1 SA i f a ∨ (f = 1159 ∧ a = LA + 2 + k)) h0' h2) → VH XX.G B h2 q l2 o2 → EtR h2 o2 0 0 SA 256 MA (tk2 ((ls.take k).foldl tk2 S0) x) → o2 (4, t, k, 0) = none → (∀ p : Sl, ¬ (p.1 = 0 ∧ p.2.1 = 0 ∧ p.2.2.2 = 0) → p ≠ (4, t, k, 0) → o2 p = o1 p) → (∀ p z, o2 p = some z → (∃ r, o1 r = some z) ∧ h2.R 3718 z.1 = h1.R 3718 z.1) → ∀ v4, V XX K 240 [.ref A, .ref X, .int (nI k), .ref (LA + 2 + k), v4] [] h2 := fun i h2 l2 o2 hi fe v2 e2 n2 o22 tg2 v4 => by
    have f2 : Fr (fun f a => VQ f a ∨ PS1 SA i f a ∨ (f = 1159 ∧ a = LA + 2 + k)) h1 h2 := by
      obtain ⟨h0', g1, g2⟩ := fe
      exact (g1.mono fun f a q => Or.inr (Or.inl q)).trans g2
    have n2l : ∀ l : List Nat, l.all (fun f => !((3712 ≤ f && f ≤ 3718) || f == 1280 || (1025 :: frF).contains f)) = true → ∀ f a, l.contains f = true → ¬ (VQ f a ∨ PS1 SA i f a ∨ (f = 1159 ∧ a = LA + 2 + k)) := fun l hl f a hf q => by
      rw [List.all_eq_true] at hl
      have := hl f (List.contains_iff_mem.mp hf)
      simp only [Bool.not_eq_true', Bool.or_eq_false_iff] at this
      obtain ⟨⟨u1, u2⟩, u3⟩ := this
      rcases q with q | q | ⟨q, -⟩
      · exact VQ.no (l := [f]) (by simp only [List.all_cons, List.all_nil, Bool.and_true]; rw [u1, u2]; rfl) f a (by simp) q
      · exact PS1.no (l := [f]) (by simp only [List.all_cons, List.all_nil, Bool.and_true]; rw [u3]; rfl) f a (by simp) q
      · rw [q] at u3; exact absurd u3 (by decide)
    have nf : ∀ f e, (1025 :: etE).contains f = true → e ≠ LA + 2 + k → LA ≤ e → e < LA + 32 → ¬ (VQ f e ∨ PS1 SA i f e ∨ (f = 1159 ∧ e = LA + 2 + k)) := fun f e hf he h1 h2 q => by
      rcases q with q | q | ⟨-, q⟩
      · exact VQ.no (l := 1025 :: etE) rfl f _ hf q
      · exact PTo.et far hi f e q h1 h2
      · exact he q
    have nk : ∀ f, [1152, 1153, 1154].contains f = true → ∀ e, LA ≤ e → e < LA + 32 → ¬ (VQ f e ∨ PS1 SA i f e ∨ (f = 1159 ∧ e = LA + 2 + k)) := fun f hf e h1 h2 q => by
      rcases q with q | q | ⟨q, -⟩
      · exact VQ.no (l := [1152, 1153, 1154]) rfl f _ hf q
      · exact PTo.et far hi f e q h1 h2
      · rw [q] at hf; exact absurd hf (by decide)
    have tL2 := f2.tag q2
    have y12 : h2.I 1152 (LA + 2 + k) = nI x.1.1 := by rw [f2.I (nk _ rfl _ (by omega) (by omega))]; exact y1
    refine k240 k4 h2 l2 o2 _ ⟨f1.trans (f2.mono fun f a q => ?_), v2, by rw [ek]; exact e2, ⟨⟨⟨f2.tag s1, by rw [f2.R (n2l [1024] rfl _ _ rfl)]; exact s2, f2.tag s3⟩, fun e he => ⟨by rw [f2.ER (n2l [10000 + 342] rfl _ _ rfl)]; exact (s4 e he).1, f2.tag (s4 e he).2⟩⟩, ⟨?_, by rw [List.length_map]; exact s6, s7⟩, fun e p hp => ?_⟩, fun e y he hy => ?_, fun e he => ?_, ?_, fun p h1 h2 => ?_, fun p z hz => ?_⟩ tL2 y12
    · rcases q with q | q | ⟨q, q2⟩
      · exact Or.inl (Or.inl q)
      · exact Or.inl (PS1.pst hi f a q)
      · exact Or.inr ⟨Or.inl q, by omega, by omega⟩
    · rw [List.length_map, f2.I (nf _ LA rfl (by omega) (by omega) (by omega))]; exact s5
    · have he : e < ls.length := by have := get_lt hp; rw [List.length_map] at this; exact this
      obtain ⟨⟨z1, z2, z3⟩, z4⟩ := s8 e p hp
      exact ⟨⟨by rw [f2.I (nk _ rfl _ (by omega) (by omega))]; exact z1, by rw [f2.J (nk _ rfl _ (by omega) (by omega))]; exact z2, by rw [f2.I (nk _ rfl _ (by omega) (by omega))]; exact z3⟩, z4⟩
    · have hel := get_lt hy
      obtain ⟨⟨z1, z2, z3⟩, ⟨z4, z5⟩, z6⟩ := en e y (by omega) hy
      have ne : ∀ f, etE.contains f = true → ¬ (VQ f (LA + 2 + e) ∨ PS1 SA i f (LA + 2 + e) ∨ (f = 1159 ∧ LA + 2 + e = LA + 2 + k)) := fun f hf => nf f _ (by rw [List.contains_iff_mem] at hf ⊢; exact List.mem_cons_of_mem _ hf) (by omega) (by omega) (by omega)
      refine ⟨⟨by rw [f2.I (ne _ rfl)]; exact z1, by rw [f2.J (ne _ rfl)]; exact z2, by rw [f2.J (ne _ rfl)]; exact z3⟩, ⟨by rw [f2.I (ne _ rfl)]; exact z4, fun w1 w2 => by rw [f2.R (ne _ rfl)]; exact z5 w1 w2⟩, ?_⟩
      rw [o22 _ (fun q => absurd q.1 (show (4 : Nat) ≠ 0 by decide)) (fun q => by have : e = k := congrArg (fun p : Sl => p.2.2.1) q; omega), f2.R (ne _ rfl)]
      exact z6
    · by_cases q : e = k
      · rw [q]; exact n2
      · rw [o22 _ (fun q => absurd q.1 (show (4 : Nat) ≠ 0 by decide)) (fun z => q (congrArg (fun p : Sl => p.2.2.1) z))]
        exact on e (by omega)
    · rw [ek]
      refine ⟨fun y hy => ?_, fun y hy v hyv => ?_, fun e he => ?_⟩
      · rcases tk2_mem hy with z | ⟨z, zt⟩
        · exact sto.1 y z
        · rw [z]; exact ⟨zt, rfl⟩
      · rcases tk2_mem hy with z | ⟨z, zt⟩
        · exact sto.2.1 y z v hyv
        · rw [z] at hyv
          exact (hv x xm v hyv).2
      · rw [f2.I (n2l [1164] rfl _ _ rfl)]; exact sto.2.2 e he
    · rw [o22 p h1 (fun q => h2 (by rw [q]; exact ⟨rfl, rfl, rfl⟩))]; exact c1 p h1 h2
    · obtain ⟨⟨r, hr⟩, hz2⟩ := tg2 p z hz
      obtain ⟨w1, w2⟩ := c2 r z hr
      exact ⟨w1, hz2.trans w2⟩
  cases hf : ((ls.take k).foldl tk2 S0).findIdx? fun y => y.1 == x.1 with
  | none =>
    have e2 := tk2_0 ⟨k4, xt⟩ hf
    rw [e2, List.length_append] at ll
    have ll : ((ls.take k).foldl tk2 S0).length < 256 := by simp at ll; omega
    refine k_X1_takeOver_156 (l4 := none) oo (fun _ => ?_) (fun a ca => nomatch ca)
    refine k_X1_takeOver_161 (r2 := y1) (r4 := y2) (r6 := y3) oo ?_
    refine fresh_ok (p := x.1) t1 rS1 e1 ll (by omega) fun h2 f2 d1 d2 d3 d4 d5 => ?_
    refine k_X1_takeOver_177 oo ?_
    obtain ⟨v2, tg2⟩ := v1.oth f2 PS1.vq
    have tL2 := f2.1.tag q2
    have nL : ∀ f, ¬ PS1 SA ((ls.take k).foldl tk2 S0).length f (LA + 2 + k) := fun f q => PTo.et far ll f _ q (by omega) (by omega)
    have e12 : EtR1 h2 o1 4 t LA k MA x := by
      refine ⟨⟨by rw [f2.1.I (nL _)]; exact x1, by rw [f2.1.J (nL _)]; exact x2, by rw [f2.1.J (nL _)]; exact x3⟩, ⟨by rw [f2.1.I (nL _)]; exact x4, fun w1 w2 => by rw [f2.1.R (nL _)]; exact x5 w1 w2⟩, ?_⟩
      rw [f2.1.R (nL _)]; exact x6
    have n1 := PS1.no (SA := SA) (i := ((ls.take k).foldl tk2 S0).length) (l := [2, 1164]) rfl
    refine tov_179 (i := ((ls.take k).foldl tk2 S0).length) (st := (ls.take k).foldl tk2 S0) (st' := tk2 ((ls.take k).foldl tk2 S0) x) oo (f2.1.tag t1) (by rw [f2.1.R (n1 _ _ rfl)]; exact rq1) v2 e1 f2.1 ll (by omega) far tL2 e12 xt y4 (by rw [e2, List.length_append]; exact d1) (by rw [e2, List.length_append]; simp; omega) (by rw [e2, List.length_append]; omega) (fun e he hl' => ?_) (by rw [e2]; simp) d2 d3 (by rw [f2.1.I (n1 _ _ rfl)]; exact sto.2.2 _ ll) (Or.inl ⟨e1.2.2 _ (Nat.le_refl _), d4⟩) (by omega) fun h3 l3 o3 f3 v3 e3 n3 o33 tg3 => ?_
    · rw [e2] at hl' ⊢
      rw [List.length_append] at hl'
      rw [List.getElem?_append_left (by simp at hl'; omega)]
    · refine aft _ h3 l3 o3 ll ⟨h2, f2.1, f3⟩ v3 e3 n3 o33 (fun p z hz => ?_) _
      obtain ⟨⟨r, hr⟩, hz2⟩ := tg3 p z hz
      exact ⟨⟨r, hr⟩, hz2.trans (tg2 r z (by simp) hr)⟩
  | some i =>
    obtain ⟨w, hw⟩ := fidx_at hf
    have e2 := tk2_1 ⟨k4, xt⟩ hf
    have hi := get_lt hw
    have l256 : ((ls.take k).foldl tk2 S0).length ≤ 256 := by rw [e2, List.length_set] at ll; exact ll
    obtain ⟨⟨z1, z2, z3⟩, z4⟩ := e1.1.2.2 i x.1 (by rw [List.getElem?_map, hw]; rfl)
    have eE := e1.2.1 i _ hw
    have wT := sto.1 _ (List.mem_of_getElem? hw)
    refine k_X1_takeOver_156 (l4 := some (SA + 2 + i)) oo (fun c => nomatch c) (fun a ca => ?_)
    rw [← Option.some.inj ca]
    refine tov_179 (h := h1) (i := i) (st := (ls.take k).foldl tk2 S0) (st' := tk2 ((ls.take k).foldl tk2 S0) x) oo t1 rq1 v1 e1 (Fr.refl h1) (by omega) (by omega) far q2 ⟨⟨x1, x2, x3⟩, ⟨x4, x5⟩, x6⟩ xt y4 (by rw [e2, List.length_set]; have := e1.1.2.1.1; rw [List.length_map] at this; exact this) (by rw [e2, List.length_set]; exact l256) (by rw [e2, List.length_set]; exact Nat.le_refl _) (fun e he hl' => by rw [e2, List.getElem?_set_ne (fun q => he q.symm)]) (by rw [e2, List.getElem?_set_self hi]) ⟨z1, z2, z3⟩ (by rw [← wT.1]; exact eE.1.1) (sto.2.2 i (by omega)) (e1.val hw (fun v hv' => sto.2.1 _ (List.mem_of_getElem? hw) v hv')) (by omega) fun h3 l3 o3 f3 v3 e3 n3 o33 tg3 => ?_
    exact aft i h3 l3 o3 (by omega) ⟨h1, Fr.refl h1, f3⟩ v3 e3 n3 o33 tg3 _
theorem tov_96 {XX : Xt} (oo : OK e_X1_takeOver XX) {K0 k0 : Nat} (t0 : h.tag A = some (0, 0)) (rq : h.R 2 A = some q) (rS : h.R 1 A = some SA) (tX : h.tag X = some (21, 0)) (rL : h.R 2705 X = some LA) (far : LA + 32 ≤ SA ∨ SA + 258 ≤ LA) (hd : 44 ≤ XX.d) (hK : K0 ≤ ls.length) (hk2 : ∀ (e : Nat) (x : Pc × Cn × Bool), k0 ≤ e → e < K0 → (ls)[e]? = some x → x.1.1 ≠ 2) (hv : ∀ x ∈ ls, ∀ v, x.2.1.2.2.2 = some v → (x.1.1 < 4 ∧ x.2.1.1 = true) ∧ fdp v.2.2 ≤ 40) (hl : (ls.foldl tk2 S0).length ≤ 256) (kk : ∀ h' l' o' v3 v4, TO2 XX.G B h o q SA LA t MA S0 ls K0 h' l' o' → V XX K 96 [.ref A, .ref X, .int (nI K0), v3, v4] [] h') : ∀ (n k : Nat), n + k = K0 → k0 ≤ k → ∀ h1 l1 o1 v3 v4, TO2 XX.G B h o q SA LA t MA S0 ls k h1 l1 o1 → V XX K 96 [.ref A, .ref X, .int (nI k), v3, v4] [] h1 := by
  intro n
  induction n with
  | zero =>
    intro k hk _ h1 l1 o1 v3 v4 r
    have e : k = K0 := by omega
    subst e
    exact kk h1 l1 o1 _ _ r
  | succ n ih =>
    intro k hk k0k h1 l1 o1 v3 v4 r
    obtain ⟨x, hx⟩ : ∃ x, (ls)[k]? = some x := ⟨_, List.getElem?_eq_getElem (by omega)⟩
    refine tov_one oo t0 rq rS tX rL far hd hx hv hl r (fun _ r' v3 v4 => ?_) (fun k4 h2 l2 o2 v4 r' tL y => ?_)
    · refine k_X1_takeOver_256 oo ?_
      rw [nI_add]
      exact ih (k + 1) (by omega) (by omega) h1 l1 o1 _ _ r'
    · refine k_X1_takeOver_240 (r2 := y) oo (fun _ => ?_) (fun c => absurd ((nI_eq (by omega) (by omega)).mp c) (hk2 k x k0k (by omega) hx))
      refine k_X1_takeOver_256 oo ?_
      rw [nI_add]
      exact ih (k + 1) (by omega) (by omega) h2 l2 o2 _ _ r'
end
