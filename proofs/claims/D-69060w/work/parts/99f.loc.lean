/-! an instruction, whole: entries, sizes; and it looks at nothing else -/
def agE (env : Pc → Cn) (s : Ms) : Prop := ∀ x ∈ ens s, env x.1 = x.2.1
section
variable {s s1 s2 : Ms} {env env' : Pc → Cn}
theorem esX.agE {es es2 : List En} (h : esX es es2) (ha : ∀ x ∈ es2, env x.1 = x.2.1) : ∀ x ∈ es, env x.1 = x.2.1 := fun x hx => by
  obtain ⟨i, hi, ei⟩ := List.mem_iff_getElem.mp hx
  obtain ⟨y, y1, y2⟩ := h.2 i x (by rw [List.getElem?_eq_getElem hi, ei])
  have := ha y (List.mem_of_getElem? y1)
  rw [y2.1, y2.2.1] at this
  exact this
theorem rz_ok {P : Ms → Prop} {r : Rz} (hne : r ≠ none) (h : rzP P r) : ∃ s2, P s2 ∧ ∀ Q : Ms → Prop, rzP Q r → Q s2 := by
  cases r with
  | none => exact absurd rfl hne
  | some e =>
    cases e with
    | ok s => exact ⟨s, h, fun Q hQ => hQ⟩
    | error e => exact ⟨e.2.2, h, fun Q hQ => hQ⟩
theorem mask_l {c : Bool} {p : Pc} {k : Nat → Ms → Rz} (hp : (1 ≤ p.1 ∧ p.1 < 5 ∧ (p.1 = 2 → (env p).1 = true) ∧ (c = true → p.1 < 4)) ∧ PB p) (hk : ∀ i s1 x, AKQ env c s s1 → (ens s1)[i]? = some x → x.1 = p → rzP (esE s1) (k i s1)) (hne : mask env c p s k ≠ none) (hag : rzP (agE env') (mask env c p s k)) : mask env' c p s k = mask env c p s k := by
  unfold mask at hne hag ⊢
  cases hf : (ens s).findIdx? fun e => e.1 == p with
  | some i => rfl
  | none =>
    rw [hf] at hne hag
    simp only at hne hag ⊢
    by_cases hc : (c && s.2.2.2.1 == 24) = true
    · rw [if_pos hc, if_pos hc]
    · rw [if_neg hc] at hne hag
      rw [if_neg hc, if_neg hc]
      have hk := hk (ens s).length (s.1, s.2.1, ens s ++ [(p, env p, env p, false)], (if c then s.2.2.2.1 + 1 else s.2.2.2.1), gas s) (p, env p, env p, false) ⟨⟨rfl, rfl, rfl⟩, Or.inr ⟨p, rfl, fidx_no hf, hp.1, ⟨hp.2, fun z => hc (by rw [z.1, z.2]; rfl)⟩, rfl⟩⟩ (by
        show (ens s ++ [(p, env p, env p, false)])[(ens s).length]? = _
        rw [List.getElem?_append_right (Nat.le_refl _), Nat.sub_self]; rfl) rfl
      obtain ⟨s2, h2, hq⟩ := rz_ok hne hk
      have ag := hq _ hag
      have := esX.agE h2.2 ag (p, env p, env p, false) (List.mem_append_right _ (by simp))
      have this : env' p = env p := this
      rw [this]
theorem l_res {snd : Int64} {lim o k : Nat} {m : Md} (h1 : 1 ≤ s.1) (hg : gas s ≤ lim) (hm : m.1 < 65536) (hk : k < 256) (hne : oRes snd env lim o m k s ≠ none) (hag : rzP (agE env') (oRes snd env lim o m k s)) : oRes snd env' lim o m k s = oRes snd env lim o m k s := by
  cases hs : stk s with
  | nil => unfold oRes; rw [hs]
  | cons i t =>
    cases i with
    | inr r => unfold oRes; rw [hs]
    | inl v =>
      rw [oRes_k hs] at hne hag ⊢
      rw [oRes_k hs]
      obtain ⟨b1, b2⟩ := mre_n hne
      rw [b2] at hne hag
      rw [b2]
      rw [mask_l (env' := env') ⟨⟨by show 1 ≤ (3 : Nat); decide, by show (3 : Nat) < 5; decide, fun z => absurd z (by show (3 : Nat) ≠ 2; decide), fun _ => by show (3 : Nat) < 4; decide⟩, by show (3 : Nat) < 16; decide, by show 256 * m.1 + k < 2147483648; omega⟩ (fun i s1 x a hx hp => (q_rsK (by rw [a.1.1]; exact h1) (by rw [a.1.2.2]; exact hg) (by rw [(stk_q a).1]; exact hs) hx (by rw [hp])).mono fun s2 h => h.2) hne hag]
      unfold mre
      rw [if_pos b1]
theorem mre_t {b : Bool} {k : Rz} (h : b = true) : mre b k = k := by unfold mre; rw [if_pos h]
theorem l_coi {snd : Int64} {lim n : Nat} (h1 : 1 ≤ s.1) (hg : gas s ≤ lim) (hne : oCoi snd env lim n s ≠ none) (hag : rzP (agE env') (oCoi snd env lim n s)) : oCoi snd env' lim n s = oCoi snd env lim n s := by
  by_cases c0 : n = 0
  · subst c0
    cases hs : stk s with
    | nil => exact absurd (by unfold oCoi; rw [if_pos rfl, hs]) hne
    | cons i t =>
      cases i with
      | inr r => exact absurd (by unfold oCoi; rw [if_pos rfl, hs]) hne
      | inl v =>
        have e : ∀ env, oCoi snd env lim 0 s = mre (v.1 == 3) (mask env true (1, snd, 0) s (kc0 lim · v t ·)) := fun env => by
          unfold oCoi
          rw [if_pos rfl, hs]; rfl
        rw [e] at hne hag ⊢
        rw [e]
        obtain ⟨b1, b2⟩ := mre_n hne
        rw [b2] at hne hag
        rw [mre_t b1, mre_t b1]
        exact mask_l (pb_1 _) (fun i s1 x a hx hp => by
          obtain ⟨h11, hg1, hz1⟩ := a.hi h1 hg
          exact (q_k0 h11 hg1 (by rw [hz1]; exact hs) hx (by rw [hp])).mono fun s2 h => h.2) hne hag
  by_cases c1 : n = 1
  · subst c1
    cases hs : stk s with
    | nil => exact absurd (by unfold oCoi; rw [if_neg (by decide), if_pos rfl, hs]) hne
    | cons i t =>
      cases i with
      | inr r => exact absurd (by unfold oCoi; rw [if_neg (by decide), if_pos rfl, hs]) hne
      | inl c =>
        cases t with
        | nil => exact absurd (by unfold oCoi; rw [if_neg (by decide), if_pos rfl, hs]) hne
        | cons j t =>
          cases j with
          | inr r => exact absurd (by unfold oCoi; rw [if_neg (by decide), if_pos rfl, hs]) hne
          | inl a' =>
            have e : ∀ env, oCoi snd env lim 1 s = mre (a'.1 == 5) (match cvl c with
                | some y => mask env true (1, a'.2.1.2, 0) s (kc1 lim · y t ·)
                | none => none) := fun env => by
              unfold oCoi
              rw [if_neg (by decide), if_pos rfl, hs]; rfl
            rw [e] at hne hag ⊢
            rw [e]
            obtain ⟨b1, b2⟩ := mre_n hne
            rw [b2] at hne hag
            rw [mre_t b1, mre_t b1]
            cases hc : cvl c with
            | none => rfl
            | some y =>
              rw [hc] at hne hag
              exact mask_l (pb_1 _) (fun i s1 x a hx hp => by
                obtain ⟨h11, hg1, hz1⟩ := a.hi h1 hg
                exact (q_k1 h11 hg1 (by rw [hz1]; exact hs) hx (by rw [hp])).mono fun s2 h => h.2) hne hag
  by_cases c5 : n = 5
  · subst c5
    cases hs : stk s with
    | nil => exact absurd (by unfold oCoi; rw [if_neg (by decide), if_neg (by decide), if_neg (by decide), if_neg (by decide), if_neg (by decide), if_pos rfl, hs]) hne
    | cons i t =>
      cases i with
      | inr r => exact absurd (by unfold oCoi; rw [if_neg (by decide), if_neg (by decide), if_neg (by decide), if_neg (by decide), if_neg (by decide), if_pos rfl, hs]) hne
      | inl a' =>
        have e : ∀ env, oCoi snd env lim 5 s = mre (a'.1 == 5) (mask env true (1, a'.2.1.2, 0) s (kc5 lim · t ·)) := fun env => by
          unfold oCoi
          rw [if_neg (by decide), if_neg (by decide), if_neg (by decide), if_neg (by decide), if_neg (by decide), if_pos rfl, hs]; rfl
        rw [e] at hne hag ⊢
        rw [e]
        obtain ⟨b1, b2⟩ := mre_n hne
        rw [b2] at hne hag
        rw [mre_t b1, mre_t b1]
        exact mask_l (pb_1 _) (fun i s1 x a hx hp => by
          obtain ⟨h11, hg1, hz1⟩ := a.hi h1 hg
          exact (q_k5 h11 hg1 (by rw [hz1]; exact hs) hx).mono fun s2 h => h.2) hne hag
  · unfold oCoi
    rw [if_neg c0, if_neg c0, if_neg c1, if_neg c1]
    split
    · rfl
    · split
      · rfl
      · split
        · rfl
        · first | rfl | rw [if_neg c5, if_neg c5]
theorem l_set (hne : mset env s ≠ none) (hag : rzP (agE env') (mset env s)) : mset env' s = mset env s := by
  unfold mset at hne hag ⊢
  by_cases c1 : tlg (ens s) = true
  · rw [if_pos c1, if_pos c1]
  · rw [if_neg c1] at hne hag
    rw [if_neg c1, if_neg c1]
    by_cases c2 : mor (ens s) = 0
    · rw [if_pos c2, if_pos c2]
    · rw [if_neg c2] at hne hag
      rw [if_neg c2, if_neg c2]
      refine mask_l ⟨⟨by show 1 ≤ (4 : Nat); decide, by show (4 : Nat) < 5; decide, fun z => absurd z (by show (4 : Nat) ≠ 2; decide), fun z => by cases z⟩, by show (4 : Nat) < 16; decide, by show (0 : Nat) < 2147483648; decide⟩ (fun i s1 x a hx hp => ?_) hne hag
      rw [hx]
      simp only
      split
      · refine esE.en hx ⟨rfl, rfl, fun z => by show (x.2.2.2 || true) = true; simp, fun z => ?_, fun z => ?_, fun z => ?_, fun z => ?_, fun _ => ⟨rfl, rfl⟩⟩
        · have z : (x.2.2.2 || true) = false := z
          simp at z
        · rw [hp] at z; cases z
        · rw [hp] at z; cases z
        · rw [hp] at z; cases z
      · exact esE.refl
theorem rb_agr {r : Rz} {m : Md} {u : Ux} (h : rzP (agE env') (rb r fun s => mgo (nx m u ((tpf s).2.1 + 1) s))) : rzP (agE env') r := by
  cases r with
  | none => trivial
  | some e => cases e <;> exact h
theorem rb_ne {r : Rz} {f : Ms → Rz} (h : rb r f ≠ none) : r ≠ none := fun z => by rw [z] at h; exact h rfl
theorem l_mop {snd : Int64} {lim : Nat} {m : Md} {x : Ix} (h1 : 1 ≤ s.1) (hg : gas s ≤ lim) (hm : m.1 < 65536) (ho : 47 ≤ x.1 → x.1 < 52 → x.2.1 < 256) (hx : x.1 ≠ 45) (hne : mop snd env lim m x s ≠ none) (hag : rzP (agE env') (mop snd env lim m x s)) : mop snd env' lim m x s = mop snd env lim m x s := by
  unfold mop at hne hag ⊢
  by_cases c1 : x.1 = 0
  · rw [if_pos c1, if_pos c1]
  rw [if_neg c1] at hne hag
  rw [if_neg c1, if_neg c1]
  by_cases c2 : x.1 < 11 ∨ x.1 = 46
  · rw [if_pos c2, if_pos c2]
  rw [if_neg c2] at hne hag
  rw [if_neg c2, if_neg c2]
  by_cases c3 : x.1 < 16
  · rw [if_pos c3, if_pos c3]
  rw [if_neg c3] at hne hag
  rw [if_neg c3, if_neg c3]
  by_cases c4 : x.1 < 21
  · rw [if_pos c4, if_pos c4]
  rw [if_neg c4] at hne hag
  rw [if_neg c4, if_neg c4]
  by_cases c5 : x.1 = 21
  · rw [if_pos c5, if_pos c5]
  rw [if_neg c5] at hne hag
  rw [if_neg c5, if_neg c5]
  by_cases c6 : x.1 = 22
  · rw [if_pos c6, if_pos c6]
  rw [if_neg c6] at hne hag
  rw [if_neg c6, if_neg c6]
  by_cases c7 : x.1 < 45
  · rw [if_pos c7, if_pos c7]
  rw [if_neg c7] at hne hag
  rw [if_neg c7, if_neg c7]
  by_cases c8 : x.1 < 52
  · rw [if_pos c8] at hne hag
    rw [if_pos c8, if_pos c8]
    exact l_res h1 hg hm (ho (by omega) c8) hne hag
  · rw [if_neg c8, if_neg c8]
theorem OPq.onx {m : Md} {u : Ux} {i : Nat} (h : OPq s s2) (h1 : 1 ≤ s2.1) : OPq s (nx m u i s2) := by
  have a := szs_nx (s := s2) (m := m) (u := u) (i := i) h1
  refine ⟨?_, h.2⟩
  have b := h.1
  unfold SQ at b ⊢
  show szs (nx m u i s2) + gas s + 64 * (ens s).length ≤ szs s + gas s2 + 64 * (ens s2).length + 1
  omega
theorem CPq.onx {m : Md} {u : Ux} {i : Nat} (h : CPq env s s2) (h1 : 1 ≤ s2.1) : CPq env s (nx m u i s2) := by
  have a := szs_nx (s := s2) (m := m) (u := u) (i := i) h1
  refine ⟨?_, h.2⟩
  have b := h.1
  unfold SQ at b ⊢
  show szs (nx m u i s2) + gas s + 64 * (ens s).length ≤ szs s + gas s2 + 64 * (ens s2).length + 1
  omega
theorem rb_q {r : Rz} {m : Md} {u : Ux} (h1 : 1 ≤ s.1) (h : rzP (CPq env s) r) (hp : rzP (pcE s) r) : rzP (CPq env s) (rb r fun s => mgo (nx m u ((tpf s).2.1 + 1) s)) := by
  cases r with
  | none => trivial
  | some e =>
    cases e with
    | ok s2 => exact CPq.onx h (by rw [hp.1]; exact h1)
    | error e => exact h
theorem STQ.g {c : Bool} {g : Nat} (h : STQ env c (sG s g) s2) : STQ env c s s2 := by
  obtain ⟨s1, a, b⟩ := h
  refine ⟨sG s1 (gas s), ⟨⟨a.1.1, a.1.2.1, rfl⟩, a.2⟩, b⟩
end
section
variable {W : Wd} {D : Nat → Nat} {s : Ms} {env : Pc → Cn} {snd : Int64} {lim : Nat}
/-- the instruction at hand, with what is known of it -/
def TOPI (W : Wd) (s : Ms) (m : Md) (u : Ux) (x : Ix) : Prop := (W (tpf s).1.1 = some m ∧ m.2.2.2.2.2[(tpf s).1.2]? = some u ∧ (ui u)[(tpf s).2.1]? = some x) ∧ ((1 ≤ s.1 ∧ s.1 ≤ 32) ∧ m.1 = (tpf s).1.1 ∧ m.1 ≠ 0 ∧ m.1 < 65536) ∧ (gM m ∧ gX m u x ∧ gU m u) ∧ wrs x.1 s ∧ IHY m x s ∧ (∀ r, (Sum.inr r : It) ∈ stk s → rin s r)
theorem Inv.top (hW : WV W) (hD : DW W D) (hI : Inv W s) (hz : szs s ≤ 150000) : ∃ m u x, TOPI W s m u x := by
  obtain ⟨A, MM, UU, SS, LL, KK, SJ, h, hk, ha, hr⟩ := id hI
  obtain ⟨t, ht⟩ : ∃ t, t + 1 = s.1 := ⟨s.1 - 1, by have := h.1.1; omega⟩
  have e0 := tpt ht
  obtain ⟨hf, -, -, -⟩ := h.tp ht
  obtain ⟨a0, a1, a2, a3, a4, a5⟩ := ha t (by omega)
  rw [if_pos ht] at a4
  obtain ⟨w1, w2, w3, w4, w5, w6⟩ := hW.2 _ _ hf.1
  have um := List.mem_of_getElem? hf.2
  have hw : W (MM t).1 = some (MM t) := by rw [w1]; exact hf.1
  obtain ⟨u1, u2, -⟩ := w5 (by rw [← w1]; exact a0) (UU t) um
  have gu := (w2.2.2.2.2.1 _ um).2
  have hxx : (ui (UU t))[(s.2.1 t).2.1]? = some (ui (UU t))[(s.2.1 t).2.1] := List.getElem?_eq_getElem a2
  generalize (ui (UU t))[(s.2.1 t).2.1] = x at hxx
  have gx := u1 x (List.mem_of_getElem? hxx)
  obtain ⟨n1, n2, d, n3, n4, n5⟩ := a1.2 _ x hxx
  rw [a4] at a5
  rw [a4, ← a3] at n3
  refine ⟨MM t, UU t, x, ⟨by rw [e0]; exact hf.1, by rw [e0]; exact hf.2, by rw [e0]; exact hxx⟩, ⟨h.1, by rw [e0]; exact w1, a0, by rw [w1]; exact w4⟩, ⟨w2, gx, gu⟩, i_wrs h ht hk hr n3, i_ihy h ht hW hD hz hw w3 gu gx a5 n3, fun r hr => (i_ref h ht hW hD hz hr).1⟩
theorem TOPI.q {m : Md} {u : Ux} {x : Ix} (T : TOPI W s m u x) (hg : gas s ≤ lim) (hE : ∀ p, csz (env p) ≤ 64) (hth : ∀ c ∈ m.2.2.2.1, c.1 ≠ 0 → (env (2, lN c.1, 0)).1 = true) : rz2 (fun s2 => SQ 0 s s2 ∧ STQ env true s s2) (fun s2 => SQ 0 s s2 ∧ ∃ c, STQ env c s s2) (mstp W snd lim env s) ∧ ∀ env', mstp W snd lim env s ≠ none → rzP (agE env') (mstp W snd lim env s) → mstp W snd lim env' s = mstp W snd lim env s := by
  obtain ⟨⟨t1, t2, t3⟩, ⟨t4, t5, t6, t6'⟩, ⟨t7, t8, t9⟩, t10, t11, t12⟩ := T
  have ev : ∀ env, mstp W snd lim env s = mpay lim 1 s (mst1 W snd lim env m u x) := fun env => mstp_1 t1 t2 t3
  have hx60 : x.1 < 60 := t8.2.1
  rw [ev]
  by_cases cg : gas s + 1 ≤ lim
  · have em : ∀ env, mpay lim 1 s (mst1 W snd lim env m u x) = mst1 W snd lim env m u x (sG s (gas s + 1)) := fun env => by unfold mpay; rw [if_pos cg]
    rw [em]
    have key : rz2 (CPq env (sG s (gas s + 1))) (EPq env (sG s (gas s + 1))) (mst1 W snd lim env m u x (sG s (gas s + 1))) ∧ ∀ env', mst1 W snd lim env m u x (sG s (gas s + 1)) ≠ none → rzP (agE env') (mst1 W snd lim env m u x (sG s (gas s + 1))) → mst1 W snd lim env' m u x (sG s (gas s + 1)) = mst1 W snd lim env m u x (sG s (gas s + 1)) := by
      have h1 : 1 ≤ (sG s (gas s + 1)).1 := t4.1
      have hg1 : gas (sG s (gas s + 1)) ≤ lim := cg
      have hr : ∀ r, (Sum.inr r : It) ∈ stk (sG s (gas s + 1)) → rin (sG s (gas s + 1)) r := t12
      have hw : wrs x.1 (sG s (gas s + 1)) := t10
      generalize sG s (gas s + 1) = s' at *
      unfold mst1
      by_cases c1 : x.1 = 1
      · rw [if_pos c1]
        refine ⟨q_end h1 hE, fun env' hne hag => ?_⟩
        rw [if_pos c1]
        unfold mend at hne hag ⊢
        obtain ⟨b1, b2⟩ := mre_n hne
        rw [b2] at hne hag
        rw [mre_t b1, mre_t b1]
        by_cases cd : s'.1 = 1
        · rw [if_pos cd] at hne hag
          rw [if_pos cd, if_pos cd]
          exact l_set hne hag
        · rw [if_neg cd, if_neg cd]
      rw [if_neg c1]
      by_cases c45 : x.1 = 45
      · rw [if_pos c45]
        refine ⟨?_, fun env' _ _ => by rw [if_neg c1, if_pos c45]⟩
        split
        · refine (rzP.re ?_ : rzP (CPq env s') _).two fun _ z => z.e
          exact OPq.c OPq.id
        · trivial
      rw [if_neg c45]
      by_cases c2 : 2 ≤ x.1 ∧ x.1 < 5
      · rw [if_pos c2]
        refine ⟨?_, fun env' _ _ => by rw [if_neg c1, if_neg c45, if_pos c2]⟩
        have : rzP (CPq env s') (mbr m u x.1 x.2.1 s') := by
          unfold mbr
          split
          · exact OPq.c (OPq.onx OPq.id h1)
          · split
            · rename_i v t hs
              refine rzP.re (rz_go (OPq.c (OPq.onx (OPq.K0 h1 ?_) h1)))
              rw [hs, szK_c]; omega
            · trivial
        exact this.two fun _ z => z.e
      rw [if_neg c2]
      by_cases c23 : x.1 = 23
      · rw [if_pos c23]
        refine ⟨?_, fun env' hne hag => ?_⟩
        · have : rzP (CPq env s') (mcl W snd env lim m u x.2.1 s') := by
            unfold mcl
            split
            · exact (q_call h1 hg1).mono fun _ => OPq.c
            · split
              · trivial
              · rename_i c hc
                split
                · exact rb_q h1 (q_coi h1 hg1 hE) pcE_coi
                · refine mask_q (hE _) ⟨⟨by show 1 ≤ (2 : Nat); decide, by show (2 : Nat) < 5; decide, fun _ => hth c (List.mem_of_getElem? hc) (by assumption), fun _ => by show (2 : Nat) < 4; decide⟩, by show (2 : Nat) < 16; decide, by show (0 : Nat) < 2147483648; decide⟩ (OPq.c OPq.id) fun i s1 y a b hy hp => ?_
                  obtain ⟨h11, hg11, -⟩ := a.hi h1 hg1
                  exact (q_call h11 hg11).mono fun s2 h => CPq.of a b h
          exact this.two fun _ z => z.e
        · rw [if_neg c1, if_neg c45, if_neg c2, if_pos c23]
          unfold mcl at hne hag ⊢
          by_cases own : x.2.1 < m.2.2.2.2.2.length
          · rw [if_pos own, if_pos own]
          · rw [if_neg own] at hne hag
            rw [if_neg own, if_neg own]
            cases hc : m.2.2.2.1[x.2.1 - m.2.2.2.2.2.length]? with
            | none => rfl
            | some c =>
              rw [hc] at hne hag
              simp only at hne hag ⊢
              by_cases c0 : c.1 = 0
              · rw [if_pos c0] at hne hag
                rw [if_pos c0, if_pos c0]
                rw [l_coi h1 hg1 (rb_ne hne) (rb_agr hag)]
              · rw [if_neg c0] at hne hag
                rw [if_neg c0, if_neg c0]
                exact mask_l ⟨⟨by show 1 ≤ (2 : Nat); decide, by show (2 : Nat) < 5; decide, fun _ => hth c (List.mem_of_getElem? hc) c0, fun _ => by show (2 : Nat) < 4; decide⟩, by show (2 : Nat) < 16; decide, by show (0 : Nat) < 2147483648; decide⟩ (fun i s1 y a hy hp => by
                  obtain ⟨h11, hg11, -⟩ := a.hi h1 hg1
                  exact (q_call h11 hg11).mono fun s2 h => h.2) hne hag
      · rw [if_neg c23]
        have hlo : 11 ≤ x.1 → x.1 < 16 → x.2.1 < 40 := fun a b => by
          have := t8.lo (by omega)
          have := t9.n
          omega
        have how : 47 ≤ x.1 → x.1 < 52 → x.2.1 < 256 := fun a b => (t11.2.2.2.2.2.2.2 ⟨a, b⟩)
        refine ⟨(rb_q h1 (q_mop h1 hg1 hE t6' ⟨hx60, c45⟩ hlo how hr hw) pcE_mop).two fun _ z => z.e, fun env' hne hag => ?_⟩
        rw [if_neg c1, if_neg c45, if_neg c2, if_neg c23]
        rw [l_mop h1 hg1 t6' how c45 (rb_ne hne) (rb_agr hag)]
    obtain ⟨ka, kb⟩ := key
    refine ⟨?_, fun env' hne hag => ?_⟩
    · cases hm : mst1 W snd lim env m u x (sG s (gas s + 1)) with
      | none => trivial
      | some e =>
        rw [hm] at ka
        cases e with
        | ok s2 =>
          have ka : CPq env (sG s (gas s + 1)) s2 := ka
          refine ⟨?_, ka.2.g⟩
          have := ka.1
          unfold SQ at this ⊢
          have e1 : gas (sG s (gas s + 1)) = gas s + 1 := rfl
          have e2 : szs (sG s (gas s + 1)) = szs s := rfl
          have e3 : ens (sG s (gas s + 1)) = ens s := rfl
          rw [e1, e2, e3] at this
          omega
        | error e =>
          have ka : EPq env (sG s (gas s + 1)) e.2.2 := ka
          refine ⟨?_, ?_⟩
          · show SQ 0 s e.2.2
            have := ka.1
            unfold SQ at this ⊢
            have e1 : gas (sG s (gas s + 1)) = gas s + 1 := rfl
            have e2 : szs (sG s (gas s + 1)) = szs s := rfl
            have e3 : ens (sG s (gas s + 1)) = ens s := rfl
            rw [e1, e2, e3] at this
            omega
          · obtain ⟨c, hc⟩ := ka.2
            exact ⟨c, hc.g⟩
    · rw [ev, em]
      exact kb env' hne hag
  · have em : ∀ env, mpay lim 1 s (mst1 W snd lim env m u x) = mst 2 5 (sG s lim) := fun env => by unfold mpay; rw [if_neg cg]
    rw [em]
    refine ⟨⟨?_, true, s, AKQ.refl, rfl, esX.refl _⟩, fun env' _ _ => by rw [ev, em]⟩
    show SQ 0 s (sG s lim)
    unfold SQ
    show szs s + gas s + 64 * (ens s).length ≤ szs s + lim + 64 * (ens s).length + 0
    omega
end
