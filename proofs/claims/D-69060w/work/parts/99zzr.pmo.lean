/-! a publication: what it asks for -/
/-- a place is asked for, not counted -/
def qsk (env : Pc → Cn) (es : List En) (p : Pc) : List En := match es.findIdx? (fun e => e.1 == p) with
  | some _ => es
  | none => es ++ [(p, env p, env p, false)]
theorem qsk_m {env : Pc → Cn} {es : List En} {p : Pc} {x : En} (h : x ∈ qsk env es p) : x ∈ es ∨ x = (p, env p, env p, false) := by
  unfold qsk at h
  split at h
  · exact Or.inl h
  · rcases List.mem_append.mp h with q | q
    · exact Or.inl q
    · exact Or.inr (by simpa using q)
section
variable {G : Gt} {B d : Nat} {h : AH} {l : List Nat} {o : Lc} {wi W A q BA X tt lim SP t : Nat} {snd : Int64} {MA : Ma} {s : Ms} {K : Outcome → AH → Prop} {fs z : Nat} {fx : Option Nat} {st : Lw} {Lf : Nat → Lw} {RN : Nat → Int32}
/-- a fault: where, and what -/
theorem faulty_ok {w : Nat} {b : Int32} (C : CTX h A W q BA X tt snd lim SP) (tW : h.tag W = some (19, 0)) (hd : 1 ≤ d) (kk : ∀ h', Fq (fun f a => (f = 2709 ∧ a = X) ∨ FS [24, 25] f a) h h' → h'.I 2709 X = b → h'.I 24 A = nI 4 → h'.J 25 A = (nI w).toInt64 → K (.threw SP) h') : MW G d e_X1_faulty [.ref A, .int (nI w), .int b] h K := by
  refine st_X1_faulty fun XX oo hG hD _ => ?_
  subst hG; subst hD
  obtain ⟨⟨t0, rq, rW, rB, rS⟩, ⟨tB, wt, ht32, eX⟩, tX, -⟩ := id C
  have ix : IX (nI tt) 32 tt := IX.mk (by omega) (by omega)
  refine k_X1_faulty_0 (r7 := wt) oo ?_
  have q1 : Fq (fun f a => f = 2709 ∧ a = X) h (h.sI 2709 X b) := Fq.sI (Fq.refl h) ⟨rfl, rfl⟩
  have c1 : CTX (h.sI 2709 X b) A W q BA X tt snd lim SP := C.fr q1.1 (fun f a hf y => by rw [y.1] at hf; exact absurd hf (by decide))
  have e1 : (h.sI 2709 X b).I 2709 X = b := by simp [n_sI, z_sI, tag_sI, I_sI, J_sI, R_sI, EI_sI, EJ_sI, ER_sI, n_sJ, z_sJ, tag_sJ, I_sJ, J_sJ, R_sJ, EI_sJ, EJ_sJ, ER_sJ, n_sR, z_sR, tag_sR, I_sR, J_sR, R_sR, EI_sR, EJ_sR, ER_sR, n_sEI, z_sEI, tag_sEI, I_sEI, J_sEI, R_sEI, EI_sEI, EJ_sEI, ER_sEI, n_sEJ, z_sEJ, tag_sEJ, I_sEJ, J_sEJ, R_sEJ, EI_sEJ, EJ_sEJ, ER_sEJ, n_sER, z_sER, tag_sER, I_sER, J_sER, R_sER, EI_sER, EJ_sER, ER_sER, n_nw, z_nw, tag_nw, I_nw, J_nw, R_nw, EI_nw, EJ_nw, ER_nw]
  generalize h.sI 2709 X b = h1 at q1 c1 e1
  refine cstop_ok (w := 4) (c := (nI w).toInt64) c1 fun h2 f2 e2 e3 => ?_
  exact kk h2 ((q1.mono fun f a y => Or.inl y).trans (f2.mono fun f a y => Or.inr y)) (by rw [f2.1.I (FS.n rfl)]; exact e1) e2 e3
/-- a module, asked for by a publication -/
theorem cmod_p {n ak g : Nat} {F : Nat → Fm} {es : List En} (H : OPQ 0 fx G B h A W q BA X tt snd lim SP wi MA l o (0, F, es, ak, g)) (wd : WRD h o A W BA tt MA fs st Lf RN) (hn0 : 0 < n) (hnb : n < 65536) (hn2 : es.length < 26) (hak : ak ≤ 24) (hes : ∀ x ∈ es, x.1.1 = 2 → x.2.2.1 = vew st Lf fs tt x.1) (hv : (vew st Lf fs tt (2, lN n, 0)).2.2.2 = none) (hg : ∀ p, gss Lf fs tt p = none) (hd : 52 ≤ d) (kk : ∀ h' l' o' MA', OUT wi W h h' o o' → OPQ 0 fx G B h' A W q BA X tt snd lim SP wi MA' l' o' (0, F, qsk (vew st Lf fs tt) es (2, lN n, 0), ak, g) → (MA'.1 = MA.1 ∧ MA'.2.1 = MA.2.1) → MAX es.length MA MA' ((qsk (vew st Lf fs tt) es (2, lN n, 0)).map fun x => x.1) (sco Lf RN fs tt) → av G h' l' = av G h l → K (.returned (some (va_rf (if (vew st Lf fs tt (2, lN n, 0)).1 = true then some (MA.1 n) else none)))) h') : MW G d e_X1_module [.ref A, .int (nI n), .int (nI 0)] h K := by
  refine st_X1_module fun XX oo hG hD _ => ?_
  subst hG; subst hD
  have t0 := H.1.1.1
  refine k_X1_module_0 oo (fun _ => ?_) (fun c => absurd ((nI_eq (b := 0) (by omega) (by omega)).mp c) (by omega))
  refine k_X1_module_9 oo ?_
  rw [nI_64 (by omega)]
  -- behind the asking
  have aft : ∀ e h1 l1 o1 MA1 x, OPQ 0 fx XX.G B h1 A W q BA X tt snd lim SP wi MA1 l1 o1 (0, F, qsk (vew st Lf fs tt) es (2, lN n, 0), ak, g) → MA1.1 = MA.1 → (qsk (vew st Lf fs tt) es (2, lN n, 0))[e]? = some x → x.1 = (2, lN n, 0) → x.2.2.1 = vew st Lf fs tt (2, lN n, 0) → K (.returned (some (va_rf (if (vew st Lf fs tt (2, lN n, 0)).1 = true then some (MA.1 n) else none)))) h1 → ∀ l3, V XX K 18 [.ref A, .int (nI n), .int (nI 0), l3] [.ref (Ea W e)] h1 := fun e h1 l1 o1 MA1 x H1 m1 hx hx1 hx2 kk l3 => by
    have en := H1.2.2.1.2.2.2.2.1 e x hx
    have e26 := H1.2.2.1.2.2.2.1.2
    have he : e < (qsk (vew st Lf fs tt) es (2, lN n, 0)).length := get_lt hx
    have e26 : (qsk (vew st Lf fs tt) es (2, lN n, 0)).length ≤ 26 := e26
    have tE := (H1.2.2.1.1.1.2.2.2 e (by omega)).2
    obtain ⟨-, ⟨b1, -⟩, -, ⟨-, -, b3⟩, -⟩ := en
    rw [hx2] at b1 b3
    cases hth : (vew st Lf fs tt (2, lN n, 0)).1 with
    | true =>
      rw [hth, if_pos rfl] at kk
      rw [hth] at b1
      have b3 := b3 (by rw [hx1]) hth
      rw [hx1, m1] at b3
      have b3 : h1.R 1158 (Ea W e) = some (MA.1 (un (lN n))) := b3
      rw [un_l (by omega)] at b3
      refine k_X1_module_18 (r2 := b1) oo (fun c => absurd c (by decide)) (fun _ => ?_)
      refine k_X1_module_26 (r2 := b3) oo ?_
      exact k_X1_module_34 oo kk
    | false =>
      rw [hth, if_neg (by decide)] at kk
      rw [hth] at b1
      refine k_X1_module_18 (r2 := b1) oo (fun _ => ?_) (fun c => absurd rfl c)
      refine k_X1_module_33 oo ?_
      exact k_X1_module_34 oo kk
  refine cask_q (p := (2, lN n, 0)) (cb := false) H wd ⟨by show 2 < 16; omega, by show 0 < _; omega⟩ (fun _ => hn2) hak (fun v hv' => by rw [hv] at hv'; cases hv') (by omega) (fun k p hp hg' h' l' o' s' MA' u H2 e e1 e2 => ?_) (fun i hi => ?_) (fun _ c => by cases c) (fun hf _ _ h1 l1 o1 u1 H1 av1 => ?_)
  · rw [hg p] at hg'; cases hg'
  · have hi : es.findIdx? (fun x => x.1 == (2, lN n, 0)) = some i := hi
    have eq : qsk (vew st Lf fs tt) es (2, lN n, 0) = es := by unfold qsk; rw [hi]
    have hi2 := hi
    rw [List.findIdx?_eq_some_iff_getElem] at hi2
    obtain ⟨i1, i2, -⟩ := hi2
    have i2 : es[i].1 = (2, lN n, 0) := by simpa using i2
    refine aft i h l o MA es[i] (by rw [eq]; exact H) rfl (by rw [eq]; exact List.getElem?_eq_getElem i1) i2 (by rw [hes _ (List.getElem_mem i1) (by rw [i2]), i2]) ?_ _
    exact kk h l o MA OUT.refl (by rw [eq]; exact H) ⟨rfl, rfl⟩ (by rw [eq]; exact MAX.refl (by rw [List.length_map]; exact Nat.le_refl _)) rfl
  · have hf : es.findIdx? (fun x => x.1 == (2, lN n, 0)) = none := hf
    have eq : qsk (vew st Lf fs tt) es (2, lN n, 0) = es ++ [((2, lN n, 0), vew st Lf fs tt (2, lN n, 0), vew st Lf fs tt (2, lN n, 0), false)] := by unfold qsk; rw [hf]
    have cz : csz (vew st Lf fs tt (2, lN n, 0)) = 0 := by unfold csz; rw [hv]
    rw [cz, Nat.add_zero] at av1
    have H1 : OPQ 0 fx XX.G B h1 A W q BA X tt snd lim SP wi (maU MA es.length (sce Lf RN fs tt (2, lN n, 0))) l1 o1 (0, F, qsk (vew st Lf fs tt) es (2, lN n, 0), ak, g) := by rw [eq]; exact H1
    refine aft es.length h1 l1 o1 _ _ H1 rfl (by rw [eq]; simp; rfl) rfl rfl ?_ _
    refine kk h1 l1 o1 _ u1 H1 ⟨rfl, rfl⟩ ⟨⟨rfl, rfl⟩, fun e he => if_neg (by omega), fun e p he hp => ?_⟩ av1
    have hl := get_lt hp
    rw [eq, List.length_map, List.length_append] at hl
    have e1 : e = es.length := by simp at hl; omega
    subst e1
    rw [eq, List.map_append, List.getElem?_append_right (by rw [List.length_map]; exact Nat.le_refl _), List.length_map, Nat.sub_self] at hp
    have hp : (2, lN n, 0) = p := Option.some.inj hp
    rw [← hp, sco_n (hg _)]
    simp [maU]
end
