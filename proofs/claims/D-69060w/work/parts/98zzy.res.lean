/-! resources -/
def rsK (lim op e : Nat) (v : VL) (t : List It) (s : Ms) : Rz := match (ens s)[e]? with
  | none => none
  | some x =>
    if op = 47 then mnd (!x.2.2.1.1) 3 s (mpay lim (10 + vsz v) s fun s => mgo (sEn (sK s t) e (cEn (true, x.2.2.1.2.1, x.2.2.1.2.2.1, some v) true)))
    else if op = 49 then mpay lim 10 s fun s => mgo (sK s (vT x.2.2.1.1 :: t))
    else mnd x.2.2.1.1 3 s (mpay lim 10 s fun s =>
      if op = 48 then (match x.2.2.1.2.2.2 with
        | some w => mre (nrr s (0, e)) (mgo (sEn (sK s (.inl w :: t)) e (cEn (false, x.2.2.1.2.1, x.2.2.1.2.2.1, none) true)))
        | none => none)
      else mgo (sEn (sK s (.inr ((0, e), []) :: t)) e (cEn x.2.2.1 (op == 51))))
theorem oRes_k {snd : Int64} {env : Pc → Cn} {lim op k : Nat} {m : Md} {s : Ms} {v : VL} {t : List It} (hs : stk s = .inl v :: t) : oRes snd env lim op m k s = mre (v.1 == if op = 47 then 6 else 5) (mask env true (3, (if op = 47 then snd else v.2.1.2), 256 * m.1 + k) s (rsK lim op · v t ·)) := by
  unfold oRes
  rw [hs]
  rfl
theorem rfF_sub {f f' : Fm} (h1 : f'.2.2.1 = f.2.2.1) (h2 : ∀ r ∈ f'.2.2.2.flatMap rfI, r ∈ f.2.2.2.flatMap rfI) {r : Rx} (hr : r ∈ rfF f') : r ∈ rfF f := by
  unfold rfF at hr ⊢
  rw [h1] at hr
  rcases List.mem_append.mp hr with z | z
  · exact List.mem_append_left _ (h2 r z)
  · exact List.mem_append_right _ z
theorem bI_orI {a b : Bool} : bI a ||| bI b = bI (a || b) := by cases a <;> cases b <;> decide
section
variable {G : Gt} {B d : Nat} {h : AH} {l : List Nat} {o : Lc} {wi W A q BA X tt lim SP t : Nat} {snd : Int64} {MA : Ma} {s : Ms} {K : Outcome → AH → Prop}
theorem sEn_at {e : Nat} {x : En} {f : En → En} (hx : (ens s)[e]? = some x) : sEn s e f = sE s ((ens s).set e (f x)) := by unfold sEn; rw [hx]
theorem OPR.en {e : Nat} {x : En} (H : OPR G B h A W q BA X tt snd lim SP wi MA l o s) (hx : (ens s)[e]? = some x) : EnR1 h o wi W e MA x ∧ h.tag (Ea W e) = some (9, 0) ∧ e < 26 := by
  have el := get_lt hx
  have e26 := H.2.2.1.2.2.2.1.2
  exact ⟨H.2.2.1.2.2.2.2.1 e x hx, (H.2.2.1.1.1.2.2.2 e (by omega)).2, by omega⟩
theorem cres_95 {XX : Xt} (oo : OK e_X1_resource XX) {op e : Nat} {v : VL} {k : List It} {x : En} {l2 l3 l4 l6 : Value} (H : OPR XX.G B h A W q BA X tt snd lim SP wi MA l o s) (hs : stk s = .inl v :: k) (hx : (ens s)[e]? = some x) (h3 : x.1.1 = 3) (ho : 47 ≤ op ∧ op < 52) (hvw : VW v) (hen : x.2.2.1.1 = x.2.2.1.2.2.2.isSome) (hq1 : op = 47 → x.2.2.1.1 = false) (hq2 : op ≠ 47 → op ≠ 49 → x.2.2.1.1 = true) (hav : lim + 8 ≤ av XX.G h l + gas s) (hd : 60 ≤ XX.d) (kk : RZ K XX.G B h A W q BA X tt snd lim SP wi MA o (if op = 47 then (mpay lim (10 + vsz v) s fun s => mgo (sEn (sK s k) e (cEn (true, x.2.2.1.2.1, x.2.2.1.2.2.1, some v) true)))
    else if op = 49 then mpay lim 10 s fun s => mgo (sK s (vT x.2.2.1.1 :: k))
    else mpay lim 10 s fun s =>
      if op = 48 then (match x.2.2.1.2.2.2 with
        | some w => mre (nrr s (0, e)) (mgo (sEn (sK s (.inl w :: k)) e (cEn (false, x.2.2.1.2.1, x.2.2.1.2.2.1, none) true)))
        | none => none)
      else mgo (sEn (sK s (.inr ((0, e), []) :: k)) e (cEn x.2.2.1 (op == 51))))) (hne : op = 48 → gas s + 10 ≤ lim → nrr s (0, e) = true) : V XX K 95 [.ref A, .int (nI op), l2, l3, l4, .ref (Ea W e), l6] [] h := by
  obtain ⟨t, ht⟩ : ∃ t, t + 1 = s.1 := ⟨s.1 - 1, by have := H.2.2.1.1.2.2.1; omega⟩
  have t0 := H.1.1.1
  have hp0 : (stk s)[0]? = some (.inl v) := by rw [hs]; rfl
  have hl : (stk s).length = k.length + 1 := by rw [hs]; rfl
  have h64 := H.hd
  by_cases c47 : op = 47
  · rw [if_pos c47] at kk
    have en := hq1 c47
    have vn : x.2.2.1.2.2.2 = none := by
      rw [en] at hen
      cases hv : x.2.2.1.2.2.2 with
      | none => rfl
      | some y => rw [hv] at hen; cases hen
    refine k_X1_resource_95 oo (fun c => absurd (by rw [c47]) c) (fun _ => ?_)
    refine k_X1_resource_102 oo ?_
    refine ctop_ok (b := 0) H.1 H.2.2.1 (by rw [H.2.2.2.1, show s.1 - 1 = t by omega]) ht hp0 fun z z1 z2 => ?_
    have ez : lvE z = v := z2
    have rz := (H.2.1.2.2.2 _ _ z1).1
    have dz : fdp z.2.2.2 ≤ 40 := by
      have := hvw.1.2.1
      rw [← ez] at this
      have e2 : fdp (lvE z).2.2 = fdp z.2.2.2 := fer_dp _
      omega
    have sz : vsz v = 1 + fsz z.2.2.2 := by
      rw [← ez]; show 1 + fsz (lvE z).2.2 = _
      rw [show fsz (lvE z).2.2 = fsz z.2.2.2 from fer_sz _]
    have szb : vsz v ≤ 200001 := by have := hvw.2.2; unfold vsz; omega
    refine k_X1_resource_109 oo ?_
    refine size_ok rz (by omega) ?_
    refine k_X1_resource_112 oo ?_
    rw [nI_add, ← sz]
    refine k_X1_resource_118 oo ?_
    refine cpay_ok (k := fun s => mgo (sEn (sK s k) e (cEn (true, x.2.2.1.2.1, x.2.2.1.2.2.1, some v) true))) H (by omega) (by omega) (fun h1 s1 u1 H1 es1 av1 em => ?_) (fun em => by rw [em] at kk; exact kk)
    rw [em] at kk
    have hs1 : stk s1 = .inl v :: k := by rw [es1]; exact hs
    have hx1 : (ens s1)[e]? = some x := by rw [es1]; exact hx
    refine k_X1_resource_121 oo (fun c => absurd (by rw [c47]) c) (fun _ => ?_)
    have t1 := H1.1.1.1
    refine k_X1_resource_127 oo ?_
    refine cpopT_ok H1 hs1 fun h2 z' sl o2 u2 H2 oe hT zi tge av2 => ?_
    have hx2 : (ens (sK s1 k))[e]? = some x := hx1
    obtain ⟨E1, E2, E3⟩ := H2.en hx2
    have ez' : lvE z' = v := zi
    refine k_X1_resource_133 oo ?_
    obtain ⟨⟨a1, a2, a3, a4⟩, ⟨b1, b2, b3⟩, ⟨g1, g2⟩, ⟨e1, e2, e3⟩, d1⟩ := E1
    rw [vn] at d1
    have f3 : Fq (PE1 W e) h2 (((h2.sR 1159 (Ea W e) (some z'.1)).sI 1155 (Ea W e) (nI 1)).sI 1163 (Ea W e) (nI 1)) := by refine Fq.sI (Fq.sI (Fq.sR (Fq.refl h2) ?_) ?_) ?_ <;> exact ⟨rfl, rfl⟩
    obtain ⟨v3, tg3⟩ := H2.2.1.oth f3 PE1.vq
    have v4 := v3.mov hT d1.1
    obtain ⟨u5, H5⟩ := H2.enc (sl := sl) (x' := cEn (true, x.2.2.1.2.1, x.2.2.1.2.2.1, some v) true x) hx2 (f3.1.mono fun g a z => Or.inr z) v4 (fun p n1 n2 => by rw [uO_n n1, uO_n n2]) tg3 (fun j hj r hr a ha => by
      have : rsl' wi r.1 ≠ (3, wi, e, 0) := fun c => by
        unfold rad at ha
        rw [c, d1.1] at ha; cases ha
      rw [rad_u this, rad_u rsl_3]; exact ha) (by
      refine ⟨⟨by simp [n_sI, z_sI, tag_sI, I_sI, J_sI, R_sI, EI_sI, EJ_sI, ER_sI, n_sJ, z_sJ, tag_sJ, I_sJ, J_sJ, R_sJ, EI_sJ, EJ_sJ, ER_sJ, n_sR, z_sR, tag_sR, I_sR, J_sR, R_sR, EI_sR, EJ_sR, ER_sR, n_sEI, z_sEI, tag_sEI, I_sEI, J_sEI, R_sEI, EI_sEI, EJ_sEI, ER_sEI, n_sEJ, z_sEJ, tag_sEJ, I_sEJ, J_sEJ, R_sEJ, EI_sEJ, EJ_sEJ, ER_sEJ, n_sER, z_sER, tag_sER, I_sER, J_sER, R_sER, EI_sER, EJ_sER, ER_sER, n_nw, z_nw, tag_nw, I_nw, J_nw, R_nw, EI_nw, EJ_nw, ER_nw]; exact a1, by simp [n_sI, z_sI, tag_sI, I_sI, J_sI, R_sI, EI_sI, EJ_sI, ER_sI, n_sJ, z_sJ, tag_sJ, I_sJ, J_sJ, R_sJ, EI_sJ, EJ_sJ, ER_sJ, n_sR, z_sR, tag_sR, I_sR, J_sR, R_sR, EI_sR, EJ_sR, ER_sR, n_sEI, z_sEI, tag_sEI, I_sEI, J_sEI, R_sEI, EI_sEI, EJ_sEI, ER_sEI, n_sEJ, z_sEJ, tag_sEJ, I_sEJ, J_sEJ, R_sEJ, EI_sEJ, EJ_sEJ, ER_sEJ, n_sER, z_sER, tag_sER, I_sER, J_sER, R_sER, EI_sER, EJ_sER, ER_sER, n_nw, z_nw, tag_nw, I_nw, J_nw, R_nw, EI_nw, EJ_nw, ER_nw]; exact a2, by simp [n_sI, z_sI, tag_sI, I_sI, J_sI, R_sI, EI_sI, EJ_sI, ER_sI, n_sJ, z_sJ, tag_sJ, I_sJ, J_sJ, R_sJ, EI_sJ, EJ_sJ, ER_sJ, n_sR, z_sR, tag_sR, I_sR, J_sR, R_sR, EI_sR, EJ_sR, ER_sR, n_sEI, z_sEI, tag_sEI, I_sEI, J_sEI, R_sEI, EI_sEI, EJ_sEI, ER_sEI, n_sEJ, z_sEJ, tag_sEJ, I_sEJ, J_sEJ, R_sEJ, EI_sEJ, EJ_sEJ, ER_sEJ, n_sER, z_sER, tag_sER, I_sER, J_sER, R_sER, EI_sER, EJ_sER, ER_sER, n_nw, z_nw, tag_nw, I_nw, J_nw, R_nw, EI_nw, EJ_nw, ER_nw]; exact a3, a4⟩, ⟨by simp [n_sI, z_sI, tag_sI, I_sI, J_sI, R_sI, EI_sI, EJ_sI, ER_sI, n_sJ, z_sJ, tag_sJ, I_sJ, J_sJ, R_sJ, EI_sJ, EJ_sJ, ER_sJ, n_sR, z_sR, tag_sR, I_sR, J_sR, R_sR, EI_sR, EJ_sR, ER_sR, n_sEI, z_sEI, tag_sEI, I_sEI, J_sEI, R_sEI, EI_sEI, EJ_sEI, ER_sEI, n_sEJ, z_sEJ, tag_sEJ, I_sEJ, J_sEJ, R_sEJ, EI_sEJ, EJ_sEJ, ER_sEJ, n_sER, z_sER, tag_sER, I_sER, J_sER, R_sER, EI_sER, EJ_sER, ER_sER, n_nw, z_nw, tag_nw, I_nw, J_nw, R_nw, EI_nw, EJ_nw, ER_nw]; rfl, by simp [n_sI, z_sI, tag_sI, I_sI, J_sI, R_sI, EI_sI, EJ_sI, ER_sI, n_sJ, z_sJ, tag_sJ, I_sJ, J_sJ, R_sJ, EI_sJ, EJ_sJ, ER_sJ, n_sR, z_sR, tag_sR, I_sR, J_sR, R_sR, EI_sR, EJ_sR, ER_sR, n_sEI, z_sEI, tag_sEI, I_sEI, J_sEI, R_sEI, EI_sEI, EJ_sEI, ER_sEI, n_sEJ, z_sEJ, tag_sEJ, I_sEJ, J_sEJ, R_sEJ, EI_sEJ, EJ_sEJ, ER_sEJ, n_sER, z_sER, tag_sER, I_sER, J_sER, R_sER, EI_sER, EJ_sER, ER_sER, n_nw, z_nw, tag_nw, I_nw, J_nw, R_nw, EI_nw, EJ_nw, ER_nw]; exact b2, by simp [n_sI, z_sI, tag_sI, I_sI, J_sI, R_sI, EI_sI, EJ_sI, ER_sI, n_sJ, z_sJ, tag_sJ, I_sJ, J_sJ, R_sJ, EI_sJ, EJ_sJ, ER_sJ, n_sR, z_sR, tag_sR, I_sR, J_sR, R_sR, EI_sR, EJ_sR, ER_sR, n_sEI, z_sEI, tag_sEI, I_sEI, J_sEI, R_sEI, EI_sEI, EJ_sEI, ER_sEI, n_sEJ, z_sEJ, tag_sEJ, I_sEJ, J_sEJ, R_sEJ, EI_sEJ, EJ_sEJ, ER_sEJ, n_sER, z_sER, tag_sER, I_sER, J_sER, R_sER, EI_sER, EJ_sER, ER_sER, n_nw, z_nw, tag_nw, I_nw, J_nw, R_nw, EI_nw, EJ_nw, ER_nw]; exact b3⟩, ⟨by simp [n_sI, z_sI, tag_sI, I_sI, J_sI, R_sI, EI_sI, EJ_sI, ER_sI, n_sJ, z_sJ, tag_sJ, I_sJ, J_sJ, R_sJ, EI_sJ, EJ_sJ, ER_sJ, n_sR, z_sR, tag_sR, I_sR, J_sR, R_sR, EI_sR, EJ_sR, ER_sR, n_sEI, z_sEI, tag_sEI, I_sEI, J_sEI, R_sEI, EI_sEI, EJ_sEI, ER_sEI, n_sEJ, z_sEJ, tag_sEJ, I_sEJ, J_sEJ, R_sEJ, EI_sEJ, EJ_sEJ, ER_sEJ, n_sER, z_sER, tag_sER, I_sER, J_sER, R_sER, EI_sER, EJ_sER, ER_sER, n_nw, z_nw, tag_nw, I_nw, J_nw, R_nw, EI_nw, EJ_nw, ER_nw]; exact g1, ?_⟩, ⟨by simp [n_sI, z_sI, tag_sI, I_sI, J_sI, R_sI, EI_sI, EJ_sI, ER_sI, n_sJ, z_sJ, tag_sJ, I_sJ, J_sJ, R_sJ, EI_sJ, EJ_sJ, ER_sJ, n_sR, z_sR, tag_sR, I_sR, J_sR, R_sR, EI_sR, EJ_sR, ER_sR, n_sEI, z_sEI, tag_sEI, I_sEI, J_sEI, R_sEI, EI_sEI, EJ_sEI, ER_sEI, n_sEJ, z_sEJ, tag_sEJ, I_sEJ, J_sEJ, R_sEJ, EI_sEJ, EJ_sEJ, ER_sEJ, n_sER, z_sER, tag_sER, I_sER, J_sER, R_sER, EI_sER, EJ_sER, ER_sER, n_nw, z_nw, tag_nw, I_nw, J_nw, R_nw, EI_nw, EJ_nw, ER_nw]; exact e1, by simp [n_sI, z_sI, tag_sI, I_sI, J_sI, R_sI, EI_sI, EJ_sI, ER_sI, n_sJ, z_sJ, tag_sJ, I_sJ, J_sJ, R_sJ, EI_sJ, EJ_sJ, ER_sJ, n_sR, z_sR, tag_sR, I_sR, J_sR, R_sR, EI_sR, EJ_sR, ER_sR, n_sEI, z_sEI, tag_sEI, I_sEI, J_sEI, R_sEI, EI_sEI, EJ_sEI, ER_sEI, n_sEJ, z_sEJ, tag_sEJ, I_sEJ, J_sEJ, R_sEJ, EI_sEJ, EJ_sEJ, ER_sEJ, n_sER, z_sER, tag_sER, I_sER, J_sER, R_sER, EI_sER, EJ_sER, ER_sER, n_nw, z_nw, tag_nw, I_nw, J_nw, R_nw, EI_nw, EJ_nw, ER_nw]; exact e2, fun q1 _ => ?_⟩, ⟨z', uO_s, by simp [n_sI, z_sI, tag_sI, I_sI, J_sI, R_sI, EI_sI, EJ_sI, ER_sI, n_sJ, z_sJ, tag_sJ, I_sJ, J_sJ, R_sJ, EI_sJ, EJ_sJ, ER_sJ, n_sR, z_sR, tag_sR, I_sR, J_sR, R_sR, EI_sR, EJ_sR, ER_sR, n_sEI, z_sEI, tag_sEI, I_sEI, J_sEI, R_sEI, EI_sEI, EJ_sEI, ER_sEI, n_sEJ, z_sEJ, tag_sEJ, I_sEJ, J_sEJ, R_sEJ, EI_sEJ, EJ_sEJ, ER_sEJ, n_sER, z_sER, tag_sER, I_sER, J_sER, R_sER, EI_sER, EJ_sER, ER_sER, n_nw, z_nw, tag_nw, I_nw, J_nw, R_nw, EI_nw, EJ_nw, ER_nw], ez'⟩⟩
      · simp [n_sI, z_sI, tag_sI, I_sI, J_sI, R_sI, EI_sI, EJ_sI, ER_sI, n_sJ, z_sJ, tag_sJ, I_sJ, J_sJ, R_sJ, EI_sJ, EJ_sJ, ER_sJ, n_sR, z_sR, tag_sR, I_sR, J_sR, R_sR, EI_sR, EJ_sR, ER_sR, n_sEI, z_sEI, tag_sEI, I_sEI, J_sEI, R_sEI, EI_sEI, EJ_sEI, ER_sEI, n_sEJ, z_sEJ, tag_sEJ, I_sEJ, J_sEJ, R_sEJ, EI_sEJ, EJ_sEJ, ER_sEJ, n_sER, z_sER, tag_sER, I_sER, J_sER, R_sER, EI_sER, EJ_sER, ER_sER, n_nw, z_nw, tag_nw, I_nw, J_nw, R_nw, EI_nw, EJ_nw, ER_nw, cEn]; rfl
      · exact absurd (show x.1.1 = 2 from q1) (by omega))
    have kk : ∀ h' l' o', OUT wi W h h' o o' → OPR XX.G B h' A W q BA X tt snd lim SP wi MA l' o' (sEn (sK s1 k) e (cEn (true, x.2.2.1.2.1, x.2.2.1.2.2.1, some v) true)) → K (.returned none) h' := kk
    rw [sEn_at hx2] at kk
    exact kk _ _ _ (((u1.ouw u2.1).trans u5).cl1 u2.2 (by rw [uO_n (fun e => by cases e), uO_s])) H5
  · rw [if_neg c47] at kk
    refine k_X1_resource_95 oo (fun _ => ?_) (fun c => absurd ((nI_eq (by omega) (by omega)).mp c) c47)
    refine k_X1_resource_116 oo ?_
    refine k_X1_resource_118 oo ?_
    -- behind the pay
    have rest : ∀ h1 s1, OUT wi W h h1 o o → OPR XX.G B h1 A W q BA X tt snd lim SP wi MA l o s1 → s1 = sG s (gas s + 10) → av XX.G h1 l = av XX.G h l → RZ K XX.G B h A W q BA X tt snd lim SP wi MA o (if op = 49 then mgo (sK s1 (vT x.2.2.1.1 :: k)) else if op = 48 then (match x.2.2.1.2.2.2 with
        | some w => mre (nrr s1 (0, e)) (mgo (sEn (sK s1 (.inl w :: k)) e (cEn (false, x.2.2.1.2.1, x.2.2.1.2.2.1, none) true)))
        | none => none)
      else mgo (sEn (sK s1 (.inr ((0, e), []) :: k)) e (cEn x.2.2.1 (op == 51)))) → V XX K 121 [.ref A, .int (nI op), l2, l3, l4, .ref (Ea W e), l6] [] h1 := by
      intro h1 s1 u1 H1 es1 av1 kk
      have hs1 : stk s1 = .inl v :: k := by rw [es1]; exact hs
      have hx1 : (ens s1)[e]? = some x := by rw [es1]; exact hx
      have e11 : s1.1 = s.1 := by rw [es1]; rfl
      have hg1 : gas s1 ≤ lim := H1.2.2.2.2.1
      have hg2 : gas s1 = gas s + 10 := by rw [es1]; rfl
      refine k_X1_resource_121 oo (fun _ => ?_) (fun c => absurd ((nI_eq (by omega) (by omega)).mp c) c47)
      have t1 := H1.1.1.1
      refine k_X1_resource_149 oo ?_
      refine cdropTop_ok H1 hs1 (fun v' hv' => by cases hv'; have := hvw.1.2.1; omega) (by omega) fun h2 l2' o2 u2 H2 av2 _ _ => ?_
      have hx2 : (ens (sK s1 k))[e]? = some x := hx1
      have hsk : stk (sK s1 k) = k := stk_K
      have ht2 : t + 1 = (sK s1 k).1 := by show t + 1 = s1.1; omega
      obtain ⟨E1, E2, E3⟩ := H2.en hx2
      obtain ⟨⟨a1, a2, a3, a4⟩, ⟨b1, b2, b3⟩, ⟨g1, g2⟩, ⟨e1, e2, e3⟩, d1⟩ := id E1
      have t2 := H2.1.1.1
      by_cases c48 : op = 48
      · refine k_X1_resource_153 oo (fun c => absurd (by rw [c48]) c) (fun _ => ?_)
        rw [if_neg (by omega), if_pos c48] at kk
        have xt := hq2 (by omega) (by omega)
        cases hvv : x.2.2.1.2.2.2 with
        | none => rw [hvv, xt] at hen; cases hen
        | some w =>
          rw [hvv] at kk d1
          obtain ⟨z, z1, z2, z3⟩ := d1
          have nr : nrr s1 (0, e) = true := by rw [es1]; exact hne c48 (by omega)
          have kk : ∀ h' l' o', OUT wi W h h' o o' → OPR XX.G B h' A W q BA X tt snd lim SP wi MA l' o' (sEn (sK s1 (.inl w :: k)) e (cEn (false, x.2.2.1.2.1, x.2.2.1.2.2.1, none) true)) → K (.returned none) h' := by
            have : mre (nrr s1 (0, e)) (mgo (sEn (sK s1 (.inl w :: k)) e (cEn (false, x.2.2.1.2.1, x.2.2.1.2.2.1, none) true))) = mgo (sEn (sK s1 (.inl w :: k)) e (cEn (false, x.2.2.1.2.1, x.2.2.1.2.2.1, none) true)) := if_pos nr
            simp only [this] at kk
            exact kk
          have tz := (H2.2.1.2.2.2 _ _ z1).1.1
          have hf2 : h2.R 28 A = some (Fa W t) := by rw [H2.2.2.2.1, show (sK s1 k).1 - 1 = t by omega]
          refine k_X1_resource_159 oo ?_
          refine cpush_ok (x := z) (i := .inl w) H2.1 H2.2.2.1 hf2 ht2 (by rw [hsk]; omega) tz z3 fun h3 f3 w3 => ?_
          have t3 : h3.tag (Ea W e) = some (9, 0) := f3.1.tag E2
          refine k_X1_resource_168 oo ?_
          refine k_X1_resource_255 oo ?_
          rw [hsk] at w3
          have f4 : Fq (PE1 W e) h3 (((h3.sR 1159 (Ea W e) none).sI 1155 (Ea W e) (nI 0)).sI 1163 (Ea W e) (nI 1)) := by refine Fq.sI (Fq.sI (Fq.sR (Fq.refl h3) ?_) ?_) ?_ <;> exact ⟨rfl, rfl⟩
          have fr1 : o2 (1, wi, t, k.length) = none := by have := H2.free ht2; rw [hsk] at this; exact this
          obtain ⟨v3, tg3⟩ := H2.2.1.oth f3 PH.v
          obtain ⟨v4, tg4⟩ := v3.oth f4 PE1.vq
          have v5 := v4.mov z1 fr1
          have em : mpu (sK s1 k) (.inl w) = sK s1 (.inl w :: k) := by unfold mpu; rw [hsk, stkK]
          rw [em] at w3
          have hx3 : (ens (sK s1 (.inl w :: k)))[e]? = some x := hx1
          have t32 : t < 32 := by have := H1.2.2.1.1.2.2.2.1; omega
          have pe : ∀ g, enE.contains g = true → ∀ a, ¬ PH (Fa W t) g a := fun g hg a z => by rcases z.1 with z | z <;> (rw [z] at hg; exact absurd hg (by decide))
          have w4 := w3.enc (o' := uO (uO o2 (3, wi, e, 0) none) (1, wi, t, k.length) (some z)) (x' := cEn (false, x.2.2.1.2.1, x.2.2.1.2.2.1, none) true x) hx3 (f4.1.mono fun g a z => Or.inr z) (fun p hp => by
            by_cases c : p = (1, wi, t, k.length)
            · rw [c, uO_s, uO_s]
            · rw [uO_n c, uO_n c, uO_n hp]) (fun p y hp hy => f4.1.R (fun c => absurd c.1 (by decide))) (fun j hj r hr a ha => by
              have nj : r.1 ≠ (0, e) := by
                refine nrr_t (s := s1) nr (j := j) hj ?_
                by_cases cj : j = t
                · subst cj
                  refine rfF_sub (f' := (sK s1 (.inl w :: k)).2.1 j) ?_ ?_ hr
                  · show (uF s1.2.1 (s1.1 - 1) _ j).2.2.1 = _
                    unfold uF
                    rw [if_pos (by omega)]
                    show (s1.2.1 (s1.1 - 1)).2.2.1 = _
                    rw [show s1.1 - 1 = j by omega]
                  · intro r' hr'
                    have e7 : ((sK s1 (.inl w :: k)).2.1 j).2.2.2 = .inl w :: k := by
                      show (uF s1.2.1 (s1.1 - 1) _ j).2.2.2 = _
                      unfold uF
                      rw [if_pos (by omega)]
                    rw [e7] at hr'
                    have e8 : (s1.2.1 j).2.2.2 = .inl v :: k := by
                      have := hs1
                      unfold stk tpf at this
                      rw [show s1.1 - 1 = j by omega] at this
                      exact this
                    rw [e8]
                    simpa [rfI] using hr'
                · have : (sK s1 (.inl w :: k)).2.1 j = s1.2.1 j := by
                    show uF s1.2.1 (s1.1 - 1) _ j = _
                    exact uF_e (by omega)
                  rw [this] at hr; exact hr
              have ns : rsl' wi r.1 ≠ (3, wi, e, 0) := fun c => nj (rsl_i (wi := wi) (r := (0, e)) c)
              rw [rad_u rsl_1] at ha
              rw [rad_u rsl_1, rad_u ns]; exact ha) (by
            refine ⟨⟨by simp [n_sI, z_sI, tag_sI, I_sI, J_sI, R_sI, EI_sI, EJ_sI, ER_sI, n_sJ, z_sJ, tag_sJ, I_sJ, J_sJ, R_sJ, EI_sJ, EJ_sJ, ER_sJ, n_sR, z_sR, tag_sR, I_sR, J_sR, R_sR, EI_sR, EJ_sR, ER_sR, n_sEI, z_sEI, tag_sEI, I_sEI, J_sEI, R_sEI, EI_sEI, EJ_sEI, ER_sEI, n_sEJ, z_sEJ, tag_sEJ, I_sEJ, J_sEJ, R_sEJ, EI_sEJ, EJ_sEJ, ER_sEJ, n_sER, z_sER, tag_sER, I_sER, J_sER, R_sER, EI_sER, EJ_sER, ER_sER, n_nw, z_nw, tag_nw, I_nw, J_nw, R_nw, EI_nw, EJ_nw, ER_nw]; rw [f3.1.I (pe _ rfl _)]; exact a1, by simp [n_sI, z_sI, tag_sI, I_sI, J_sI, R_sI, EI_sI, EJ_sI, ER_sI, n_sJ, z_sJ, tag_sJ, I_sJ, J_sJ, R_sJ, EI_sJ, EJ_sJ, ER_sJ, n_sR, z_sR, tag_sR, I_sR, J_sR, R_sR, EI_sR, EJ_sR, ER_sR, n_sEI, z_sEI, tag_sEI, I_sEI, J_sEI, R_sEI, EI_sEI, EJ_sEI, ER_sEI, n_sEJ, z_sEJ, tag_sEJ, I_sEJ, J_sEJ, R_sEJ, EI_sEJ, EJ_sEJ, ER_sEJ, n_sER, z_sER, tag_sER, I_sER, J_sER, R_sER, EI_sER, EJ_sER, ER_sER, n_nw, z_nw, tag_nw, I_nw, J_nw, R_nw, EI_nw, EJ_nw, ER_nw]; rw [f3.1.J (pe _ rfl _)]; exact a2, by simp [n_sI, z_sI, tag_sI, I_sI, J_sI, R_sI, EI_sI, EJ_sI, ER_sI, n_sJ, z_sJ, tag_sJ, I_sJ, J_sJ, R_sJ, EI_sJ, EJ_sJ, ER_sJ, n_sR, z_sR, tag_sR, I_sR, J_sR, R_sR, EI_sR, EJ_sR, ER_sR, n_sEI, z_sEI, tag_sEI, I_sEI, J_sEI, R_sEI, EI_sEI, EJ_sEI, ER_sEI, n_sEJ, z_sEJ, tag_sEJ, I_sEJ, J_sEJ, R_sEJ, EI_sEJ, EJ_sEJ, ER_sEJ, n_sER, z_sER, tag_sER, I_sER, J_sER, R_sER, EI_sER, EJ_sER, ER_sER, n_nw, z_nw, tag_nw, I_nw, J_nw, R_nw, EI_nw, EJ_nw, ER_nw]; rw [f3.1.I (pe _ rfl _)]; exact a3, a4⟩, ⟨by simp [n_sI, z_sI, tag_sI, I_sI, J_sI, R_sI, EI_sI, EJ_sI, ER_sI, n_sJ, z_sJ, tag_sJ, I_sJ, J_sJ, R_sJ, EI_sJ, EJ_sJ, ER_sJ, n_sR, z_sR, tag_sR, I_sR, J_sR, R_sR, EI_sR, EJ_sR, ER_sR, n_sEI, z_sEI, tag_sEI, I_sEI, J_sEI, R_sEI, EI_sEI, EJ_sEI, ER_sEI, n_sEJ, z_sEJ, tag_sEJ, I_sEJ, J_sEJ, R_sEJ, EI_sEJ, EJ_sEJ, ER_sEJ, n_sER, z_sER, tag_sER, I_sER, J_sER, R_sER, EI_sER, EJ_sER, ER_sER, n_nw, z_nw, tag_nw, I_nw, J_nw, R_nw, EI_nw, EJ_nw, ER_nw]; rfl, by simp [n_sI, z_sI, tag_sI, I_sI, J_sI, R_sI, EI_sI, EJ_sI, ER_sI, n_sJ, z_sJ, tag_sJ, I_sJ, J_sJ, R_sJ, EI_sJ, EJ_sJ, ER_sJ, n_sR, z_sR, tag_sR, I_sR, J_sR, R_sR, EI_sR, EJ_sR, ER_sR, n_sEI, z_sEI, tag_sEI, I_sEI, J_sEI, R_sEI, EI_sEI, EJ_sEI, ER_sEI, n_sEJ, z_sEJ, tag_sEJ, I_sEJ, J_sEJ, R_sEJ, EI_sEJ, EJ_sEJ, ER_sEJ, n_sER, z_sER, tag_sER, I_sER, J_sER, R_sER, EI_sER, EJ_sER, ER_sER, n_nw, z_nw, tag_nw, I_nw, J_nw, R_nw, EI_nw, EJ_nw, ER_nw]; rw [f3.1.J (pe _ rfl _)]; exact b2, by simp [n_sI, z_sI, tag_sI, I_sI, J_sI, R_sI, EI_sI, EJ_sI, ER_sI, n_sJ, z_sJ, tag_sJ, I_sJ, J_sJ, R_sJ, EI_sJ, EJ_sJ, ER_sJ, n_sR, z_sR, tag_sR, I_sR, J_sR, R_sR, EI_sR, EJ_sR, ER_sR, n_sEI, z_sEI, tag_sEI, I_sEI, J_sEI, R_sEI, EI_sEI, EJ_sEI, ER_sEI, n_sEJ, z_sEJ, tag_sEJ, I_sEJ, J_sEJ, R_sEJ, EI_sEJ, EJ_sEJ, ER_sEJ, n_sER, z_sER, tag_sER, I_sER, J_sER, R_sER, EI_sER, EJ_sER, ER_sER, n_nw, z_nw, tag_nw, I_nw, J_nw, R_nw, EI_nw, EJ_nw, ER_nw]; rw [f3.1.J (pe _ rfl _)]; exact b3⟩, ⟨by simp [n_sI, z_sI, tag_sI, I_sI, J_sI, R_sI, EI_sI, EJ_sI, ER_sI, n_sJ, z_sJ, tag_sJ, I_sJ, J_sJ, R_sJ, EI_sJ, EJ_sJ, ER_sJ, n_sR, z_sR, tag_sR, I_sR, J_sR, R_sR, EI_sR, EJ_sR, ER_sR, n_sEI, z_sEI, tag_sEI, I_sEI, J_sEI, R_sEI, EI_sEI, EJ_sEI, ER_sEI, n_sEJ, z_sEJ, tag_sEJ, I_sEJ, J_sEJ, R_sEJ, EI_sEJ, EJ_sEJ, ER_sEJ, n_sER, z_sER, tag_sER, I_sER, J_sER, R_sER, EI_sER, EJ_sER, ER_sER, n_nw, z_nw, tag_nw, I_nw, J_nw, R_nw, EI_nw, EJ_nw, ER_nw]; rw [f3.1.I (pe _ rfl _)]; exact g1, ?_⟩, ⟨by simp [n_sI, z_sI, tag_sI, I_sI, J_sI, R_sI, EI_sI, EJ_sI, ER_sI, n_sJ, z_sJ, tag_sJ, I_sJ, J_sJ, R_sJ, EI_sJ, EJ_sJ, ER_sJ, n_sR, z_sR, tag_sR, I_sR, J_sR, R_sR, EI_sR, EJ_sR, ER_sR, n_sEI, z_sEI, tag_sEI, I_sEI, J_sEI, R_sEI, EI_sEI, EJ_sEI, ER_sEI, n_sEJ, z_sEJ, tag_sEJ, I_sEJ, J_sEJ, R_sEJ, EI_sEJ, EJ_sEJ, ER_sEJ, n_sER, z_sER, tag_sER, I_sER, J_sER, R_sER, EI_sER, EJ_sER, ER_sER, n_nw, z_nw, tag_nw, I_nw, J_nw, R_nw, EI_nw, EJ_nw, ER_nw]; rw [f3.1.I (pe _ rfl _)]; exact e1, by simp [n_sI, z_sI, tag_sI, I_sI, J_sI, R_sI, EI_sI, EJ_sI, ER_sI, n_sJ, z_sJ, tag_sJ, I_sJ, J_sJ, R_sJ, EI_sJ, EJ_sJ, ER_sJ, n_sR, z_sR, tag_sR, I_sR, J_sR, R_sR, EI_sR, EJ_sR, ER_sR, n_sEI, z_sEI, tag_sEI, I_sEI, J_sEI, R_sEI, EI_sEI, EJ_sEI, ER_sEI, n_sEJ, z_sEJ, tag_sEJ, I_sEJ, J_sEJ, R_sEJ, EI_sEJ, EJ_sEJ, ER_sEJ, n_sER, z_sER, tag_sER, I_sER, J_sER, R_sER, EI_sER, EJ_sER, ER_sER, n_nw, z_nw, tag_nw, I_nw, J_nw, R_nw, EI_nw, EJ_nw, ER_nw]; rw [f3.1.I (pe _ rfl _)]; exact e2, fun q1 _ => absurd (show x.1.1 = 2 from q1) (by omega)⟩, ⟨by rw [uO_n (fun c => by cases c), uO_s], by simp [n_sI, z_sI, tag_sI, I_sI, J_sI, R_sI, EI_sI, EJ_sI, ER_sI, n_sJ, z_sJ, tag_sJ, I_sJ, J_sJ, R_sJ, EI_sJ, EJ_sJ, ER_sJ, n_sR, z_sR, tag_sR, I_sR, J_sR, R_sR, EI_sR, EJ_sR, ER_sR, n_sEI, z_sEI, tag_sEI, I_sEI, J_sEI, R_sEI, EI_sEI, EJ_sEI, ER_sEI, n_sEJ, z_sEJ, tag_sEJ, I_sEJ, J_sEJ, R_sEJ, EI_sEJ, EJ_sEJ, ER_sEJ, n_sER, z_sER, tag_sER, I_sER, J_sER, R_sER, EI_sER, EJ_sER, ER_sER, n_nw, z_nw, tag_nw, I_nw, J_nw, R_nw, EI_nw, EJ_nw, ER_nw]⟩⟩
            simp [n_sI, z_sI, tag_sI, I_sI, J_sI, R_sI, EI_sI, EJ_sI, ER_sI, n_sJ, z_sJ, tag_sJ, I_sJ, J_sJ, R_sJ, EI_sJ, EJ_sJ, ER_sJ, n_sR, z_sR, tag_sR, I_sR, J_sR, R_sR, EI_sR, EJ_sR, ER_sR, n_sEI, z_sEI, tag_sEI, I_sEI, J_sEI, R_sEI, EI_sEI, EJ_sEI, ER_sEI, n_sEJ, z_sEJ, tag_sEJ, I_sEJ, J_sEJ, R_sEJ, EI_sEJ, EJ_sEJ, ER_sEJ, n_sER, z_sER, tag_sER, I_sER, J_sER, R_sER, EI_sER, EJ_sER, ER_sER, n_nw, z_nw, tag_nw, I_nw, J_nw, R_nw, EI_nw, EJ_nw, ER_nw, cEn]; rfl)
          have fv := (f3.1.mono (PH.ip t32)).trans (f4.1.mono fun g a z => PE2.ip (W := W) (e := e) (by omega) g a (Or.inr z))
          rw [sEn_at hx3] at kk
          refine kk _ _ _ ((u1.trans u2).trans ⟨fv, fun p hp => ⟨by rw [uO_n (OUT.ne hp (by omega)), uO_n (OUT.ne hp (by omega))], fun y hy => by rw [tg4 p y (by simp) hy, tg3 p y (by simp) hy]⟩⟩) ⟨H2.1.ip fv, v5, w4, ?_, H2.2.2.2.2.1, ?_⟩
          · show _ = some (Fa W (s1.1 - 1))
            rw [f4.1.R (fun c => absurd c.1 (by decide)), f3.1.R PH.f]; exact H2.2.2.2.1
          · exact (H2.2.2.2.2.2.ph f3.1).fr f4.1 (fun _ c => absurd c.1 (by decide)) (fun _ c => absurd c.1 (by decide))
      · refine k_X1_resource_153 oo (fun _ => ?_) (fun c => absurd ((nI_eq (by omega) (by omega)).mp c) c48)
        by_cases c49 : op = 49
        · rw [if_pos c49] at kk
          refine k_X1_resource_189 oo (fun c => absurd (by rw [c49]) c) (fun _ => ?_)
          refine k_X1_resource_195 (r2 := b1) oo ?_
          refine cpushTruth_ok H2 (by rw [hsk]; omega) (by omega) (by omega) fun h3 l3 o3 u3 H3 av3 => ?_
          refine k_X1_resource_204 oo ?_
          refine k_X1_resource_255 oo ?_
          have em : mpu (sK s1 k) (vT x.2.2.1.1) = sK s1 (vT x.2.2.1.1 :: k) := by unfold mpu; rw [hsk, stkK]
          rw [em] at H3
          exact kk h3 l3 o3 ((u1.trans u2).trans u3) H3
        · rw [if_neg c49, if_neg c48] at kk
          have xt := hq2 (by omega) (by omega)
          refine k_X1_resource_189 oo (fun _ => ?_) (fun c => absurd ((nI_eq (by omega) (by omega)).mp c) c49)
          cases hvv : x.2.2.1.2.2.2 with
          | none => rw [hvv, xt] at hen; cases hen
          | some w =>
            rw [hvv] at d1
            obtain ⟨z, z1, z2, z3⟩ := d1
            have rq := H2.1.1.2.1
            have tq := H2.2.1.1.1
            have fr1 : o2 (1, wi, t, (stk (sK s1 k)).length) = none := H2.free ht2
            refine k_X1_resource_207 oo ?_
            refine vtake_ok H2.2.1 fr1 (by omega) (by omega) fun h3 a lA f3 v3 tg3 av3 ta3 => ?_
            have np := VQ.no (l := enE) rfl
            have z4 : h3.R 1159 (Ea W e) = some z.1 := by rw [f3.R (np _ _ rfl)]; exact z2
            have t3 : h3.tag A = some (0, 0) := f3.tag t2
            have t4 : h3.tag (Ea W e) = some (9, 0) := f3.tag E2
            have t5 : h3.tag a = some (29, 0) := ((v3.2.2.2 _ _ uO_s).1 : RV h3 a 8 (0, 0) .leaf).1
            refine k_X1_resource_216 oo ?_
            have hr : rad o2 wi ((0, e), []) = some z.1 := by
              have rs : rsl' wi ((0, e) : Nat × Nat) = (3, wi, e, 0) := rfl
              unfold rad
              rw [rs, z1]; rfl
            refine H2.pushR ht2 (by rw [hsk]; omega) f3 v3 tg3 hr fun h4 o4 u4 H4 => ?_
            have em : mpu (sK s1 k) (.inr ((0, e), [])) = sK s1 (.inr ((0, e), []) :: k) := by unfold mpu; rw [hsk, stkK]
            rw [em] at H4
            have hx4 : (ens (sK s1 (.inr ((0, e), []) :: k)))[e]? = some x := hx1
            obtain ⟨⟨⟨a1, a2, a3, a4⟩, ⟨b1, b2, b3⟩, ⟨g1, g2⟩, ⟨e1, e2, e3⟩, d1⟩, E5, -⟩ := H4.en hx4
            have fin : ∀ bb : Bool, bb = (op == 51) → V XX K 251 [.ref A, .int (nI op), l2, l3, l4, .ref (Ea W e), .ref a] [.int (bI bb), .int (bI x.2.2.2), .ref (Ea W e)] h4 := fun bb hb => by
              refine k_X1_resource_251 (z2 := by rw [bI_orI]; exact bI_or _) oo ?_
              refine k_X1_resource_255 oo ?_
              rw [bI_orI]
              have f5 : Fq (PE1 W e) h4 (h4.sI 1163 (Ea W e) (bI (x.2.2.2 || bb))) := Fq.sI (Fq.refl h4) ⟨rfl, rfl⟩
              obtain ⟨v5, tg5⟩ := H4.2.1.oth f5 PE1.vq
              obtain ⟨u5, H5⟩ := H4.enc0 (x' := cEn x.2.2.1 bb x) hx4 (f5.1.mono fun g a z => Or.inr z) v5 (fun _ _ => rfl) tg5 (fun j hj r hr a ha => ha) (by
                refine ⟨⟨by simp [n_sI, z_sI, tag_sI, I_sI, J_sI, R_sI, EI_sI, EJ_sI, ER_sI, n_sJ, z_sJ, tag_sJ, I_sJ, J_sJ, R_sJ, EI_sJ, EJ_sJ, ER_sJ, n_sR, z_sR, tag_sR, I_sR, J_sR, R_sR, EI_sR, EJ_sR, ER_sR, n_sEI, z_sEI, tag_sEI, I_sEI, J_sEI, R_sEI, EI_sEI, EJ_sEI, ER_sEI, n_sEJ, z_sEJ, tag_sEJ, I_sEJ, J_sEJ, R_sEJ, EI_sEJ, EJ_sEJ, ER_sEJ, n_sER, z_sER, tag_sER, I_sER, J_sER, R_sER, EI_sER, EJ_sER, ER_sER, n_nw, z_nw, tag_nw, I_nw, J_nw, R_nw, EI_nw, EJ_nw, ER_nw]; exact a1, by simp [n_sI, z_sI, tag_sI, I_sI, J_sI, R_sI, EI_sI, EJ_sI, ER_sI, n_sJ, z_sJ, tag_sJ, I_sJ, J_sJ, R_sJ, EI_sJ, EJ_sJ, ER_sJ, n_sR, z_sR, tag_sR, I_sR, J_sR, R_sR, EI_sR, EJ_sR, ER_sR, n_sEI, z_sEI, tag_sEI, I_sEI, J_sEI, R_sEI, EI_sEI, EJ_sEI, ER_sEI, n_sEJ, z_sEJ, tag_sEJ, I_sEJ, J_sEJ, R_sEJ, EI_sEJ, EJ_sEJ, ER_sEJ, n_sER, z_sER, tag_sER, I_sER, J_sER, R_sER, EI_sER, EJ_sER, ER_sER, n_nw, z_nw, tag_nw, I_nw, J_nw, R_nw, EI_nw, EJ_nw, ER_nw]; exact a2, by simp [n_sI, z_sI, tag_sI, I_sI, J_sI, R_sI, EI_sI, EJ_sI, ER_sI, n_sJ, z_sJ, tag_sJ, I_sJ, J_sJ, R_sJ, EI_sJ, EJ_sJ, ER_sJ, n_sR, z_sR, tag_sR, I_sR, J_sR, R_sR, EI_sR, EJ_sR, ER_sR, n_sEI, z_sEI, tag_sEI, I_sEI, J_sEI, R_sEI, EI_sEI, EJ_sEI, ER_sEI, n_sEJ, z_sEJ, tag_sEJ, I_sEJ, J_sEJ, R_sEJ, EI_sEJ, EJ_sEJ, ER_sEJ, n_sER, z_sER, tag_sER, I_sER, J_sER, R_sER, EI_sER, EJ_sER, ER_sER, n_nw, z_nw, tag_nw, I_nw, J_nw, R_nw, EI_nw, EJ_nw, ER_nw]; exact a3, a4⟩, ⟨by simp [n_sI, z_sI, tag_sI, I_sI, J_sI, R_sI, EI_sI, EJ_sI, ER_sI, n_sJ, z_sJ, tag_sJ, I_sJ, J_sJ, R_sJ, EI_sJ, EJ_sJ, ER_sJ, n_sR, z_sR, tag_sR, I_sR, J_sR, R_sR, EI_sR, EJ_sR, ER_sR, n_sEI, z_sEI, tag_sEI, I_sEI, J_sEI, R_sEI, EI_sEI, EJ_sEI, ER_sEI, n_sEJ, z_sEJ, tag_sEJ, I_sEJ, J_sEJ, R_sEJ, EI_sEJ, EJ_sEJ, ER_sEJ, n_sER, z_sER, tag_sER, I_sER, J_sER, R_sER, EI_sER, EJ_sER, ER_sER, n_nw, z_nw, tag_nw, I_nw, J_nw, R_nw, EI_nw, EJ_nw, ER_nw]; exact b1, by simp [n_sI, z_sI, tag_sI, I_sI, J_sI, R_sI, EI_sI, EJ_sI, ER_sI, n_sJ, z_sJ, tag_sJ, I_sJ, J_sJ, R_sJ, EI_sJ, EJ_sJ, ER_sJ, n_sR, z_sR, tag_sR, I_sR, J_sR, R_sR, EI_sR, EJ_sR, ER_sR, n_sEI, z_sEI, tag_sEI, I_sEI, J_sEI, R_sEI, EI_sEI, EJ_sEI, ER_sEI, n_sEJ, z_sEJ, tag_sEJ, I_sEJ, J_sEJ, R_sEJ, EI_sEJ, EJ_sEJ, ER_sEJ, n_sER, z_sER, tag_sER, I_sER, J_sER, R_sER, EI_sER, EJ_sER, ER_sER, n_nw, z_nw, tag_nw, I_nw, J_nw, R_nw, EI_nw, EJ_nw, ER_nw]; exact b2, by simp [n_sI, z_sI, tag_sI, I_sI, J_sI, R_sI, EI_sI, EJ_sI, ER_sI, n_sJ, z_sJ, tag_sJ, I_sJ, J_sJ, R_sJ, EI_sJ, EJ_sJ, ER_sJ, n_sR, z_sR, tag_sR, I_sR, J_sR, R_sR, EI_sR, EJ_sR, ER_sR, n_sEI, z_sEI, tag_sEI, I_sEI, J_sEI, R_sEI, EI_sEI, EJ_sEI, ER_sEI, n_sEJ, z_sEJ, tag_sEJ, I_sEJ, J_sEJ, R_sEJ, EI_sEJ, EJ_sEJ, ER_sEJ, n_sER, z_sER, tag_sER, I_sER, J_sER, R_sER, EI_sER, EJ_sER, ER_sER, n_nw, z_nw, tag_nw, I_nw, J_nw, R_nw, EI_nw, EJ_nw, ER_nw]; exact b3⟩, ⟨by simp [n_sI, z_sI, tag_sI, I_sI, J_sI, R_sI, EI_sI, EJ_sI, ER_sI, n_sJ, z_sJ, tag_sJ, I_sJ, J_sJ, R_sJ, EI_sJ, EJ_sJ, ER_sJ, n_sR, z_sR, tag_sR, I_sR, J_sR, R_sR, EI_sR, EJ_sR, ER_sR, n_sEI, z_sEI, tag_sEI, I_sEI, J_sEI, R_sEI, EI_sEI, EJ_sEI, ER_sEI, n_sEJ, z_sEJ, tag_sEJ, I_sEJ, J_sEJ, R_sEJ, EI_sEJ, EJ_sEJ, ER_sEJ, n_sER, z_sER, tag_sER, I_sER, J_sER, R_sER, EI_sER, EJ_sER, ER_sER, n_nw, z_nw, tag_nw, I_nw, J_nw, R_nw, EI_nw, EJ_nw, ER_nw]; exact g1, by simp [n_sI, z_sI, tag_sI, I_sI, J_sI, R_sI, EI_sI, EJ_sI, ER_sI, n_sJ, z_sJ, tag_sJ, I_sJ, J_sJ, R_sJ, EI_sJ, EJ_sJ, ER_sJ, n_sR, z_sR, tag_sR, I_sR, J_sR, R_sR, EI_sR, EJ_sR, ER_sR, n_sEI, z_sEI, tag_sEI, I_sEI, J_sEI, R_sEI, EI_sEI, EJ_sEI, ER_sEI, n_sEJ, z_sEJ, tag_sEJ, I_sEJ, J_sEJ, R_sEJ, EI_sEJ, EJ_sEJ, ER_sEJ, n_sER, z_sER, tag_sER, I_sER, J_sER, R_sER, EI_sER, EJ_sER, ER_sER, n_nw, z_nw, tag_nw, I_nw, J_nw, R_nw, EI_nw, EJ_nw, ER_nw]; rfl⟩, ⟨by simp [n_sI, z_sI, tag_sI, I_sI, J_sI, R_sI, EI_sI, EJ_sI, ER_sI, n_sJ, z_sJ, tag_sJ, I_sJ, J_sJ, R_sJ, EI_sJ, EJ_sJ, ER_sJ, n_sR, z_sR, tag_sR, I_sR, J_sR, R_sR, EI_sR, EJ_sR, ER_sR, n_sEI, z_sEI, tag_sEI, I_sEI, J_sEI, R_sEI, EI_sEI, EJ_sEI, ER_sEI, n_sEJ, z_sEJ, tag_sEJ, I_sEJ, J_sEJ, R_sEJ, EI_sEJ, EJ_sEJ, ER_sEJ, n_sER, z_sER, tag_sER, I_sER, J_sER, R_sER, EI_sER, EJ_sER, ER_sER, n_nw, z_nw, tag_nw, I_nw, J_nw, R_nw, EI_nw, EJ_nw, ER_nw]; exact e1, by simp [n_sI, z_sI, tag_sI, I_sI, J_sI, R_sI, EI_sI, EJ_sI, ER_sI, n_sJ, z_sJ, tag_sJ, I_sJ, J_sJ, R_sJ, EI_sJ, EJ_sJ, ER_sJ, n_sR, z_sR, tag_sR, I_sR, J_sR, R_sR, EI_sR, EJ_sR, ER_sR, n_sEI, z_sEI, tag_sEI, I_sEI, J_sEI, R_sEI, EI_sEI, EJ_sEI, ER_sEI, n_sEJ, z_sEJ, tag_sEJ, I_sEJ, J_sEJ, R_sEJ, EI_sEJ, EJ_sEJ, ER_sEJ, n_sER, z_sER, tag_sER, I_sER, J_sER, R_sER, EI_sER, EJ_sER, ER_sER, n_nw, z_nw, tag_nw, I_nw, J_nw, R_nw, EI_nw, EJ_nw, ER_nw]; exact e2, fun q1 q2 => by simp [n_sI, z_sI, tag_sI, I_sI, J_sI, R_sI, EI_sI, EJ_sI, ER_sI, n_sJ, z_sJ, tag_sJ, I_sJ, J_sJ, R_sJ, EI_sJ, EJ_sJ, ER_sJ, n_sR, z_sR, tag_sR, I_sR, J_sR, R_sR, EI_sR, EJ_sR, ER_sR, n_sEI, z_sEI, tag_sEI, I_sEI, J_sEI, R_sEI, EI_sEI, EJ_sEI, ER_sEI, n_sEJ, z_sEJ, tag_sEJ, I_sEJ, J_sEJ, R_sEJ, EI_sEJ, EJ_sEJ, ER_sEJ, n_sER, z_sER, tag_sER, I_sER, J_sER, R_sER, EI_sER, EJ_sER, ER_sER, n_nw, z_nw, tag_nw, I_nw, J_nw, R_nw, EI_nw, EJ_nw, ER_nw]; exact e3 q1 q2⟩, ?_⟩
                rw [show (h4.sI 1163 (Ea W e) (bI (x.2.2.2 || bb))).R 1159 (Ea W e) = h4.R 1159 (Ea W e) from by simp [n_sI, z_sI, tag_sI, I_sI, J_sI, R_sI, EI_sI, EJ_sI, ER_sI, n_sJ, z_sJ, tag_sJ, I_sJ, J_sJ, R_sJ, EI_sJ, EJ_sJ, ER_sJ, n_sR, z_sR, tag_sR, I_sR, J_sR, R_sR, EI_sR, EJ_sR, ER_sR, n_sEI, z_sEI, tag_sEI, I_sEI, J_sEI, R_sEI, EI_sEI, EJ_sEI, ER_sEI, n_sEJ, z_sEJ, tag_sEJ, I_sEJ, J_sEJ, R_sEJ, EI_sEJ, EJ_sEJ, ER_sEJ, n_sER, z_sER, tag_sER, I_sER, J_sER, R_sER, EI_sER, EJ_sER, ER_sER, n_nw, z_nw, tag_nw, I_nw, J_nw, R_nw, EI_nw, EJ_nw, ER_nw]]
                exact d1)
              have kk : ∀ h' l' o', OUT wi W h h' o o' → OPR XX.G B h' A W q BA X tt snd lim SP wi MA l' o' (sEn (sK s1 (.inr ((0, e), []) :: k)) e (cEn x.2.2.1 (op == 51))) → K (.returned none) h' := kk
              rw [sEn_at hx4, ← hb] at kk
              exact kk _ _ _ (((u1.trans u2).trans u4).trans u5) H5
            by_cases c51 : op = 51
            · refine k_X1_resource_234 (r2 := g2) oo (fun c => absurd (by rw [c51]) c) (fun _ => ?_)
              refine k_X1_resource_246 oo ?_
              exact fin true (by rw [c51]; rfl)
            · refine k_X1_resource_234 (r2 := g2) oo (fun _ => ?_) (fun c => absurd ((nI_eq (by omega) (by omega)).mp c) c51)
              refine k_X1_resource_250 oo ?_
              exact fin false (by simp [c51])
    by_cases c49 : op = 49
    · rw [if_pos c49] at kk
      refine cpay_ok (n := 10) (k := fun s => mgo (sK s (vT x.2.2.1.1 :: k))) H (by omega) (by omega) (fun h1 s1 u1 H1 es1 av1 em => ?_) (fun em => by rw [em] at kk; exact kk)
      rw [em] at kk
      exact rest h1 s1 u1 H1 es1 av1 (by rw [if_pos c49]; exact kk)
    · rw [if_neg c49] at kk
      refine cpay_ok (n := 10) (k := fun s => if op = 48 then (match x.2.2.1.2.2.2 with
        | some w => mre (nrr s (0, e)) (mgo (sEn (sK s (.inl w :: k)) e (cEn (false, x.2.2.1.2.1, x.2.2.1.2.2.1, none) true)))
        | none => none)
      else mgo (sEn (sK s (.inr ((0, e), []) :: k)) e (cEn x.2.2.1 (op == 51)))) H (by omega) (by omega) (fun h1 s1 u1 H1 es1 av1 em => ?_) (fun em => by rw [em] at kk; exact kk)
      rw [em] at kk
      exact rest h1 s1 u1 H1 es1 av1 (by rw [if_neg c49]; exact kk)
end
