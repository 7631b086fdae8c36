/-! what an instruction does to entries and to sizes -/
def AKQ (env : Pc → Cn) (c : Bool) (s s1 : Ms) : Prop := (s1.1 = s.1 ∧ s1.2.1 = s.2.1 ∧ gas s1 = gas s) ∧ ((ens s1 = ens s ∧ s1.2.2.2.1 = s.2.2.2.1) ∨ ∃ p, ens s1 = ens s ++ [(p, env p, env p, false)] ∧ (∀ x ∈ ens s, x.1 ≠ p) ∧ (1 ≤ p.1 ∧ p.1 < 5 ∧ (p.1 = 2 → (env p).1 = true) ∧ (c = true → p.1 < 4)) ∧ (PB p ∧ ¬ (c = true ∧ s.2.2.2.1 = 24)) ∧ s1.2.2.2.1 = if c then s.2.2.2.1 + 1 else s.2.2.2.1)
def STQ (env : Pc → Cn) (c : Bool) (s s2 : Ms) : Prop := ∃ s1, AKQ env c s s1 ∧ esE s1 s2
def CPq (env : Pc → Cn) (s s2 : Ms) : Prop := SQ 1 s s2 ∧ STQ env true s s2
theorem rzP.mono {P Q : Ms → Prop} {r : Rz} (h : rzP P r) (hq : ∀ s, P s → Q s) : rzP Q r := by
  cases r with
  | none => trivial
  | some e => cases e <;> exact hq _ h
theorem fidx_en {l : List En} {p : Pc} {i : Nat} (h : (l.findIdx? fun e => e.1 == p) = some i) : ∃ x, l[i]? = some x ∧ x.1 = p := by
  obtain ⟨hl, h1, -⟩ := List.findIdx?_eq_some_iff_getElem.mp h
  exact ⟨l[i], List.getElem?_eq_getElem hl, by simpa using h1⟩
theorem fidx_no {l : List En} {p : Pc} (h : (l.findIdx? fun e => e.1 == p) = none) : ∀ x ∈ l, x.1 ≠ p := fun x hx e => by
  have := List.findIdx?_eq_none_iff.mp h x hx
  rw [e] at this
  simp at this
section
variable {s s1 s2 : Ms} {env : Pc → Cn}
theorem AKQ.refl {c : Bool} : AKQ env c s s := ⟨⟨rfl, rfl, rfl⟩, Or.inl ⟨rfl, rfl⟩⟩
theorem CPq.of (a : AKQ env true s s1) (b : SQ 0 s s1) (c : OPq s1 s2) : CPq env s s2 := ⟨b.trans c.1 rfl, s1, a, c.2⟩
theorem OPq.c (h : OPq s s2) : CPq env s s2 := ⟨h.1, s, AKQ.refl, h.2⟩
theorem mask_q {P : Ms → Prop} {c : Bool} {p : Pc} {k : Nat → Ms → Rz} (hE : csz (env p) ≤ 64) (hp : (1 ≤ p.1 ∧ p.1 < 5 ∧ (p.1 = 2 → (env p).1 = true) ∧ (c = true → p.1 < 4)) ∧ PB p) (h1 : P s) (h2 : ∀ i s1 x, AKQ env c s s1 → SQ 0 s s1 → (ens s1)[i]? = some x → x.1 = p → rzP P (k i s1)) : rzP P (mask env c p s k) := by
  unfold mask
  cases hf : (ens s).findIdx? fun e => e.1 == p with
  | some i =>
    obtain ⟨x, x1, x2⟩ := fidx_en hf
    exact h2 i s x AKQ.refl (by unfold SQ; omega) x1 x2
  | none =>
    simp only
    split
    · exact h1
    · rename_i hc
      refine h2 _ _ (p, env p, env p, false) ⟨⟨rfl, rfl, rfl⟩, Or.inr ⟨p, rfl, fidx_no hf, hp.1, ⟨hp.2, fun z => hc ?_⟩, rfl⟩⟩ ?_ ?_ rfl
      · rw [z.1, z.2]; rfl
      · have e : szE (ens s ++ [(p, env p, env p, false)]) = szE (ens s) + csz (env p) := by
          unfold szE
          rw [List.map_append, List.sum_append]
          simp
        unfold SQ
        show szN s.2.1 s.1 + szE (ens s ++ [(p, env p, env p, false)]) + gas s + 64 * (ens s).length ≤ szN s.2.1 s.1 + szE (ens s) + gas s + 64 * (ens s ++ [(p, env p, env p, false)]).length + 0
        rw [e, List.length_append]
        simp only [List.length_cons, List.length_nil]
        omega
      · show (ens s ++ [(p, env p, env p, false)])[(ens s).length]? = _
        rw [List.getElem?_append_right (Nat.le_refl _), Nat.sub_self]; rfl
theorem OPq.ken {k : List It} {n e : Nat} {x : En} {c : Cn} {ch : Bool} (h1 : 1 ≤ s.1) (hx : (ens s)[e]? = some x) (hE : EX x (cEn c ch x)) (h : szK k + csz c ≤ szK (stk s) + csz x.2.2.1 + n + 1) : OPq s (sEn (sK (sG s (gas s + n)) k) e (cEn c ch)) := by
  have hx2 : (ens (sK (sG s (gas s + n)) k))[e]? = some x := hx
  have a := szs_K (s := s) (k := k) h1
  have b := szs_en (s := sK (sG s (gas s + n)) k) (f := cEn c ch) hx2
  have e1 : csz (cEn c ch x).2.2.1 = csz c := rfl
  have e2 : szs (sK (sG s (gas s + n)) k) = szs (sK s k) := rfl
  obtain ⟨c1, c2, -⟩ := sEn_n (s := sK (sG s (gas s + n)) k) (e := e) (f := cEn c ch)
  refine ⟨?_, esE.trans (b := sK (sG s (gas s + n)) k) ⟨rfl, esX.refl _⟩ (esE.en hx2 hE)⟩
  unfold SQ
  rw [c1, c2]
  show _ ≤ szs s + (gas s + n) + 64 * (ens s).length + 1
  rw [e1, e2] at b
  omega
theorem EX.r3 {x : En} {b : Bool} {v : Option VL} {ch : Bool} (h3 : x.1.1 = 3) (h : ch = true ∨ (b, x.2.2.1.2.1, x.2.2.1.2.2.1, v) = x.2.2.1) : EX x (cEn (b, x.2.2.1.2.1, x.2.2.1.2.2.1, v) ch x) := by
  refine ⟨rfl, rfl, fun z => by show (x.2.2.2 || ch) = true; rw [z]; rfl, fun z => ?_, fun z => ?_, fun z => ?_, fun _ => ⟨rfl, rfl⟩, fun z => ?_⟩
  · rcases h with h | h
    · have z : (x.2.2.2 || ch) = false := z
      rw [h] at z; simp at z
    · exact h
  · rw [h3] at z; cases z
  · rw [h3] at z; cases z
  · rw [h3] at z; cases z
theorem q_rsK {lim o e : Nat} {v : VL} {t : List It} {x : En} (h1 : 1 ≤ s.1) (hg : gas s ≤ lim) (hs : stk s = .inl v :: t) (hx : (ens s)[e]? = some x) (h3 : x.1.1 = 3) : rzP (OPq s) (rsK lim o e v t s) := by
  have hz : szK (stk s) = vsz v + szK t := by rw [hs, szK_c, isz_v]
  have := vsz_1 v
  unfold rsK
  rw [hx]
  simp only
  split
  · refine rzP.nd OPq.id (rzP.py (OPq.lim hg) (rz_go (OPq.ken h1 hx (EX.r3 h3 (Or.inl rfl)) ?_)))
    have : csz (true, x.2.2.1.2.1, x.2.2.1.2.2.1, some v) = vsz v := rfl
    omega
  · split
    · refine rzP.py (OPq.lim hg) (rz_go (OPq.K h1 ?_))
      rw [szK_c, isz_vT]; omega
    · refine rzP.nd OPq.id (rzP.py (OPq.lim hg) ?_)
      split
      · split
        · rename_i w hw
          refine rzP.re (rz_go (OPq.ken h1 hx (EX.r3 h3 (Or.inl rfl)) ?_))
          have e1 : csz x.2.2.1 = vsz w := by unfold csz; rw [hw]
          have e2 : csz (false, x.2.2.1.2.1, x.2.2.1.2.2.1, none) = 0 := rfl
          rw [szK_c, isz_v]; omega
        · trivial
      · refine rz_go (OPq.ken (c := x.2.2.1) h1 hx (EX.r3 (x := x) (b := x.2.2.1.1) (v := x.2.2.1.2.2.2) h3 (Or.inr rfl)) ?_)
        rw [szK_c, isz_r]; omega
theorem stk_q (a : AKQ env true s s1) : stk s1 = stk s ∧ lcs s1 = lcs s := stk_a a.1.1 a.1.2.1
theorem q_res {snd : Int64} {lim o k : Nat} {m : Md} (h1 : 1 ≤ s.1) (hg : gas s ≤ lim) (hE : ∀ p, csz (env p) ≤ 64) (hm : m.1 < 65536) (hk : k < 256) : rzP (CPq env s) (oRes snd env lim o m k s) := by
  cases hs : stk s with
  | nil => unfold oRes; rw [hs]; trivial
  | cons i t =>
    cases i with
    | inr r => unfold oRes; rw [hs]; trivial
    | inl v =>
      rw [oRes_k hs]
      refine rzP.re (mask_q (hE _) ⟨⟨by show 1 ≤ (3 : Nat); decide, by show (3 : Nat) < 5; decide, fun z => absurd z (by show (3 : Nat) ≠ 2; decide), fun _ => by show (3 : Nat) < 4; decide⟩, by show (3 : Nat) < 16; decide, by show 256 * m.1 + k < 2147483648; omega⟩ (OPq.c OPq.id) fun i s1 x a b hx hp => ?_)
      exact (q_rsK (by rw [a.1.1]; exact h1) (by rw [a.1.2.2]; exact hg) (by rw [(stk_q a).1]; exact hs) hx (by rw [hp])).mono fun s2 h => CPq.of a b h
theorem EX.r1 {x : En} {b : Bool} {y : Int64} (h1 : x.1.1 = 1) (hb : x.2.2.1.1 = true → b = true) : EX x (cEn (b, y, x.2.2.1.2.2) true x) := by
  refine ⟨rfl, rfl, fun z => by show (x.2.2.2 || true) = true; simp, fun z => ?_, fun z => ?_, fun _ => ⟨hb, rfl⟩, fun z => ?_, fun z => ?_⟩
  · have z : (x.2.2.2 || true) = false := z
    simp at z
  · rw [h1] at z; cases z
  · rw [h1] at z; cases z
  · rw [h1] at z; cases z
theorem csz_2 {b : Bool} {y : Int64} {x : Cn} : csz (b, y, x.2.2) = csz x := rfl
def kc0 (lim e : Nat) (v : VL) (t : List It) (s : Ms) : Rz := mpay lim 5 s fun s => (match (ens s)[e]? with
  | some x => if v.2.1.2 < 0 ∨ x.2.2.1.2.1 < v.2.1.2 then mst 1 1 s else mgo (sEn (sK s (vC v.2.1.2 :: t)) e (cEn (x.2.2.1.1, x.2.2.1.2.1 - v.2.1.2, x.2.2.1.2.2) true))
  | none => none)
def kc1 (lim e : Nat) (y : Int64) (t : List It) (s : Ms) : Rz := mpay lim 5 s fun s => (match (ens s)[e]? with
  | some x => mgo (sEn (sK s t) e (cEn (true, x.2.2.1.2.1 + y, x.2.2.1.2.2) true))
  | none => none)
def kc5 (lim e : Nat) (t : List It) (s : Ms) : Rz := mpay lim 5 s fun s => (match (ens s)[e]? with
  | some x => mgo (sK s (vI 3 0 x.2.2.1.2.1 :: t))
  | none => none)
theorem q_k0 {lim e : Nat} {v : VL} {t : List It} {x : En} (h1 : 1 ≤ s.1) (hg : gas s ≤ lim) (hs : stk s = .inl v :: t) (hx : (ens s)[e]? = some x) (hp : x.1.1 = 1) : rzP (OPq s) (kc0 lim e v t s) := by
  have hz : szK (stk s) = vsz v + szK t := by rw [hs, szK_c, isz_v]
  have := vsz_1 v
  unfold kc0
  refine rzP.py (OPq.lim hg) ?_
  rw [show (ens (sG s (gas s + 5)))[e]? = some x from hx]
  simp only
  split
  · exact OPq.g (by show gas s ≤ gas s + 5; omega) rfl rfl rfl
  · refine OPq.ken h1 hx (EX.r1 hp id) ?_
    rw [csz_2, szK_c, isz_vC]; omega
theorem q_k1 {lim e : Nat} {y : Int64} {i j : It} {t : List It} {x : En} (h1 : 1 ≤ s.1) (hg : gas s ≤ lim) (hs : stk s = i :: j :: t) (hx : (ens s)[e]? = some x) (hp : x.1.1 = 1) : rzP (OPq s) (kc1 lim e y t s) := by
  have hz : szK (stk s) = isz i + (isz j + szK t) := by rw [hs, szK_c, szK_c]
  unfold kc1
  refine rzP.py (OPq.lim hg) ?_
  rw [show (ens (sG s (gas s + 5)))[e]? = some x from hx]
  refine OPq.ken h1 hx (EX.r1 hp (fun _ => rfl)) ?_
  rw [csz_2]; omega
theorem q_k5 {lim e : Nat} {i : It} {t : List It} {x : En} (h1 : 1 ≤ s.1) (hg : gas s ≤ lim) (hs : stk s = i :: t) (hx : (ens s)[e]? = some x) : rzP (OPq s) (kc5 lim e t s) := by
  have hz : szK (stk s) = isz i + szK t := by rw [hs, szK_c]
  unfold kc5
  refine rzP.py (OPq.lim hg) ?_
  rw [show (ens (sG s (gas s + 5)))[e]? = some x from hx]
  refine OPq.K h1 ?_
  rw [szK_c, isz_vI]; omega
theorem pb_1 {c : Bool} (a : Int64) : (1 ≤ ((1, a, 0) : Pc).1 ∧ ((1, a, 0) : Pc).1 < 5 ∧ (((1, a, 0) : Pc).1 = 2 → (env (1, a, 0)).1 = true) ∧ (c = true → ((1, a, 0) : Pc).1 < 4)) ∧ PB (1, a, 0) := ⟨⟨by show 1 ≤ (1 : Nat); decide, by show (1 : Nat) < 5; decide, fun z => absurd z (by show (1 : Nat) ≠ 2; decide), fun _ => by show (1 : Nat) < 4; decide⟩, by show (1 : Nat) < 16; decide, by show (0 : Nat) < 2147483648; decide⟩
theorem AKQ.hi {lim : Nat} (h1 : 1 ≤ s.1) (hg : gas s ≤ lim) (a : AKQ env true s s1) : 1 ≤ s1.1 ∧ gas s1 ≤ lim ∧ stk s1 = stk s := ⟨by rw [a.1.1]; exact h1, by rw [a.1.2.2]; exact hg, (stk_q a).1⟩
theorem q_coi {snd : Int64} {lim n : Nat} (h1 : 1 ≤ s.1) (hg : gas s ≤ lim) (hE : ∀ p, csz (env p) ≤ 64) : rzP (CPq env s) (oCoi snd env lim n s) := by
  unfold oCoi
  split
  · split
    · rename_i v t hs
      refine rzP.re (mask_q (hE _) (pb_1 _) (OPq.c OPq.id) fun i s1 x a b hx hp => ?_)
      obtain ⟨h11, hg1, hz1⟩ := a.hi h1 hg
      exact (q_k0 h11 hg1 (by rw [hz1]; exact hs) hx (by rw [hp])).mono fun s2 h => CPq.of a b h
    · trivial
  · split
    · split
      · rename_i c a' t hs
        refine rzP.re ?_
        split
        · refine mask_q (hE _) (pb_1 _) (OPq.c OPq.id) fun i s1 x a b hx hp => ?_
          obtain ⟨h11, hg1, hz1⟩ := a.hi h1 hg
          exact (q_k1 h11 hg1 (by rw [hz1]; exact hs) hx (by rw [hp])).mono fun s2 h => CPq.of a b h
        · trivial
      · trivial
    · split
      · split
        · rename_i r t hs
          split
          · split
            · refine rzP.py (OPq.c (OPq.lim hg)) (rz_go (OPq.c (OPq.K h1 ?_)))
              rw [hs, szK_c, szK_c, isz_vI]; omega
            · trivial
          · trivial
        · trivial
      · split
        · split
          · rename_i b a t hs
            split
            · refine rzP.py (OPq.c (OPq.lim hg)) (rz_go (OPq.c (OPq.K h1 ?_)))
              rw [hs, szK_c, szK_c, szK_c, isz_vC]; omega
            · trivial
          · trivial
        · split
          · split
            · rename_i v c t hs
              refine rzP.re ?_
              split
              · refine rzP.py (OPq.c (OPq.lim hg)) ?_
                split
                · exact OPq.c (OPq.g (by show gas s ≤ gas s + 5; omega) rfl rfl rfl)
                · refine rz_go (OPq.c (OPq.K h1 ?_))
                  have := isz_1 (.inl v)
                  have := isz_1 (.inl c)
                  rw [hs, szK_c, szK_c, szK_c, szK_c, isz_vC, isz_vC]; omega
              · trivial
            · trivial
          · split
            · split
              · rename_i a' t hs
                refine rzP.re (mask_q (hE _) (pb_1 _) (OPq.c OPq.id) fun i s1 x a b hx hp => ?_)
                obtain ⟨h11, hg1, hz1⟩ := a.hi h1 hg
                exact (q_k5 h11 hg1 (by rw [hz1]; exact hs) hx).mono fun s2 h => CPq.of a b h
              · trivial
            · trivial
/-- references that an operation writes through -/
def wrs (o : Nat) (s : Ms) : Prop := ((o = 19 ∨ o = 57) → ∀ r t, stk s = .inr r :: t → wok s r) ∧ (o = 56 → ∀ w r t, stk s = .inl w :: .inr r :: t → wok s r) ∧ (o = 58 → ∀ a b r t, stk s = .inl a :: .inl b :: .inr r :: t → wok s r)
theorem q_mop {snd : Int64} {lim : Nat} {m : Md} {x : Ix} (h1 : 1 ≤ s.1) (hg : gas s ≤ lim) (hE : ∀ p, csz (env p) ≤ 64) (hm : m.1 < 65536) (hx : x.1 < 60 ∧ x.1 ≠ 45) (hl : 11 ≤ x.1 → x.1 < 16 → x.2.1 < 40) (ho : 47 ≤ x.1 → x.1 < 52 → x.2.1 < 256) (hr : ∀ r, (Sum.inr r : It) ∈ stk s → rin s r) (hw : wrs x.1 s) : rzP (CPq env s) (mop snd env lim m x s) := by
  unfold mop
  split
  · split
    · rename_i i t hs
      refine rz_go (OPq.c (OPq.K0 h1 ?_))
      rw [hs, szK_c]; omega
    · trivial
  · split
    · exact (q_con h1).mono fun _ => OPq.c
    · split
      · exact (q_loc h1 (hl (by omega) (by omega)) hg).mono fun _ => OPq.c
      · split
        · exact (q_ref h1 hg hr (fun z => hw.1 (Or.inl z))).mono fun _ => OPq.c
        · split
          · exact (q_pck h1).mono fun _ => OPq.c
          · split
            · exact (q_unp h1).mono fun _ => OPq.c
            · split
              · exact (q_num h1 hg).mono fun _ => OPq.c
              · split
                · exact q_res h1 hg hE hm (ho (by omega) (by omega))
                · exact (q_vec h1 hg hr ⟨hw.2.1, fun z => hw.1 (Or.inr z), hw.2.2⟩ (by omega)).mono fun _ => OPq.c
theorem szL_fgl {L : Ls} {l : Nat → Option It} : szL (fgl L l) ≤ szL l := by
  refine sum_le fun j _ => ?_
  unfold fgl
  cases h : l j with
  | none => exact Nat.le_refl _
  | some i =>
    cases i with
    | inl v => exact Nat.le_refl _
    | inr r =>
      simp only
      split
      · exact Nat.le_refl _
      · exact Nat.zero_le _
theorem szs_nx {m : Md} {u : Ux} {i : Nat} (h1 : 1 ≤ s.1) : szs (nx m u i s) ≤ szs s := by
  have := szs_F (s := s) (f := ((tpf s).1, i, fgl (lnt m u i) (lcs s), stk s)) h1
  have e1 : szF (tpf s) = szK (stk s) + szL (lcs s) := rfl
  have e2 : szF ((tpf s).1, i, fgl (lnt m u i) (lcs s), stk s) = szK (stk s) + szL (fgl (lnt m u i) (lcs s)) := rfl
  have := szL_fgl (L := lnt m u i) (l := lcs s)
  show szs (sF s ((tpf s).1, i, fgl (lnt m u i) (lcs s), stk s)) ≤ szs s
  omega
theorem szL_get : ∀ (l : List It) (n : Nat), ((List.range n).map fun k => szO (l[k]?)).sum ≤ szK l
  | [], n => by
    have : (fun k : Nat => szO (([] : List It)[k]?)) = fun _ => 0 := by funext k; simp [szO]
    rw [this]
    have : ((List.range n).map fun _ => 0).sum = 0 := by
      rw [List.map_const', List.sum_replicate_nat]; omega
    rw [this]; exact Nat.zero_le _
  | i :: l, 0 => Nat.zero_le _
  | i :: l, n + 1 => by
    rw [List.range_succ_eq_map, List.map_cons, List.map_map, List.sum_cons, szK_c]
    have := szL_get l n
    have e1 : szO ((i :: l)[0]?) = isz i := rfl
    have e2 : ((fun k => szO ((i :: l)[k]?)) ∘ Nat.succ) = fun k => szO (l[k]?) := by funext k; rfl
    rw [e1, e2]
    omega
theorem szK_rev (l : List It) : szK l.reverse = szK l := by unfold szK; rw [List.map_reverse, List.sum_reverse]
theorem q_call {W : Wd} {lim i : Nat} {m : Md} {u : Ux} {g : Nat × Nat} (h1 : 1 ≤ s.1) (hg : gas s ≤ lim) : rzP (OPq s) (mcall W lim m u i g s) := by
  unfold mcall
  split
  · trivial
  · split
    · trivial
    · rename_i u' hu
      refine rzP.nd OPq.id (rzP.py (OPq.lim hg) (rzP.re (rz_go ?_)))
      refine ⟨?_, rfl, esX.refl _⟩
      have a := szs_K (s := s) (k := (stk s).drop u'.2.1.length) h1
      have b := szs_nx (s := sK (sG s (gas s + 5)) ((stk s).drop u'.2.1.length)) (m := m) (u := u) (i := i + 1) h1
      have e0 : szs (sK (sG s (gas s + 5)) ((stk s).drop u'.2.1.length)) = szs (sK s ((stk s).drop u'.2.1.length)) := rfl
      have e1 : stk (sG s (gas s + 5)) = stk s := rfl
      simp only [e1]
      generalize hq : nx m u (i + 1) (sK (sG s (gas s + 5)) ((stk s).drop u'.2.1.length)) = s3 at *
      have e2 : s3.1 = s.1 := by rw [← hq]; rfl
      have e3 : gas s3 = gas s + 5 := by rw [← hq]; rfl
      have e4 : ens s3 = ens s := by rw [← hq]; rfl
      have c := szL_get ((stk s).take u'.2.1.length).reverse 40
      rw [szK_rev] at c
      have d : szK (stk s) = szK ((stk s).take u'.2.1.length) + szK ((stk s).drop u'.2.1.length) := by rw [← szK_ap, List.take_append_drop]
      have e5 : szN (uF s3.2.1 s3.1 (ent g ((stk s).take u'.2.1.length).reverse)) (s3.1 + 1) = szN s3.2.1 s3.1 + szF (ent g ((stk s).take u'.2.1.length).reverse) := by
        unfold szN
        rw [List.range_succ, List.map_append, List.sum_append]
        have : ((List.range s3.1).map fun j => szF (uF s3.2.1 s3.1 (ent g ((stk s).take u'.2.1.length).reverse) j)).sum = ((List.range s3.1).map fun j => szF (s3.2.1 j)).sum := sum_same fun j hj => by rw [uF_n (by omega)]
        rw [this]
        simp only [List.map_cons, List.map_nil, List.sum_cons, List.sum_nil, uF_s]
        omega
      have e6 : szF (ent g ((stk s).take u'.2.1.length).reverse) = 0 + szL (fun k => ((stk s).take u'.2.1.length).reverse[k]?) := rfl
      unfold SQ
      show szN (uF s3.2.1 s3.1 (ent g ((stk s).take u'.2.1.length).reverse)) (s3.1 + 1) + szE (ens s3) + gas s + 64 * (ens s).length ≤ szs s + gas s3 + 64 * (ens s3).length + 1
      have e7 : szs s3 = szN s3.2.1 s3.1 + szE (ens s3) := rfl
      have c : szL (fun k => ((stk s).take u'.2.1.length).reverse[k]?) ≤ szK ((stk s).take u'.2.1.length) := c
      rw [e5, e6, e3]
      rw [e4] at e7 ⊢
      omega
/-- ends, and what goes on -/
def rz2 (P Q : Ms → Prop) (r : Rz) : Prop := match r with
  | none => True
  | some (.ok s) => P s
  | some (.error e) => Q e.2.2
theorem rzP.two {P Q : Ms → Prop} {r : Rz} (h : rzP P r) (hq : ∀ s, P s → Q s) : rz2 P Q r := by
  cases r with
  | none => trivial
  | some e => cases e with
    | ok s => exact h
    | error e => exact hq _ h
def EPq (env : Pc → Cn) (s s2 : Ms) : Prop := SQ 1 s s2 ∧ ∃ c, STQ env c s s2
theorem CPq.e (h : CPq env s s2) : EPq env s s2 := ⟨h.1, true, h.2⟩
theorem q_set (hE : ∀ p, csz (env p) ≤ 64) : rzP (EPq env s) (mset env s) := by
  unfold mset
  split
  · exact CPq.e (OPq.c OPq.id)
  · split
    · exact CPq.e (OPq.c OPq.id)
    · refine mask_q (c := false) (hE _) ⟨⟨by show 1 ≤ (4 : Nat); decide, by show (4 : Nat) < 5; decide, fun z => absurd z (by show (4 : Nat) ≠ 2; decide), fun z => by cases z⟩, by show (4 : Nat) < 16; decide, by show (0 : Nat) < 2147483648; decide⟩ (CPq.e (OPq.c OPq.id)) fun i s1 x a b hx hp => ?_
      have one : EPq env s s1 := ⟨b.trans (m := 1) (by unfold SQ; omega) rfl, false, s1, a, esE.refl⟩
      rw [hx]
      simp only
      split
      · have hx2 := szs_en (s := s1) (f := cEn (x.2.2.1.1, Int64.ofInt (x.2.2.1.2.1.toInt + mor (ens s1)), x.2.2.1.2.2) true) hx
        obtain ⟨c1, c2, -⟩ := sEn_n (s := s1) (e := i) (f := cEn (x.2.2.1.1, Int64.ofInt (x.2.2.1.2.1.toInt + mor (ens s1)), x.2.2.1.2.2) true)
        refine ⟨b.trans (m := 1) ?_ rfl, false, s1, a, esE.en hx ⟨rfl, rfl, fun z => by show (x.2.2.2 || true) = true; simp, fun z => ?_, fun z => ?_, fun z => ?_, fun z => ?_, fun _ => ⟨rfl, rfl⟩⟩⟩
        · show szs (sEn s1 i (cEn (x.2.2.1.1, Int64.ofInt (x.2.2.1.2.1.toInt + mor (ens s1)), x.2.2.1.2.2) true)) + gas s1 + 64 * (ens s1).length ≤ szs s1 + gas (sEn s1 i (cEn (x.2.2.1.1, Int64.ofInt (x.2.2.1.2.1.toInt + mor (ens s1)), x.2.2.1.2.2) true)) + 64 * (ens (sEn s1 i (cEn (x.2.2.1.1, Int64.ofInt (x.2.2.1.2.1.toInt + mor (ens s1)), x.2.2.1.2.2) true))).length + 1
          rw [c1, c2]
          have e1 : csz (cEn (x.2.2.1.1, Int64.ofInt (x.2.2.1.2.1.toInt + mor (ens s1)), x.2.2.1.2.2) true x).2.2.1 = csz x.2.2.1 := rfl
          omega
        · have z : (x.2.2.2 || true) = false := z
          simp at z
        · rw [hp] at z; cases z
        · rw [hp] at z; cases z
        · rw [hp] at z; cases z
      · exact one
theorem q_end {u : Ux} (h1 : 1 ≤ s.1) (hE : ∀ p, csz (env p) ≤ 64) : rz2 (CPq env s) (EPq env s) (mend env u s) := by
  unfold mend mre
  split
  · split
    · have := q_set (s := s) hE
      have er : ∀ s', mset env s ≠ some (.ok s') := fun s' z => by
        rw [mset_q] at z
        cases hq : msq env (s00 s) with
        | none => rw [hq] at z; cases z
        | some e => rw [hq] at z; cases e <;> cases z
      cases hm : mset env s with
      | none => trivial
      | some e =>
        cases e with
        | ok s' => exact absurd hm (er s')
        | error e => rw [hm] at this; exact this
    · rename_i hd
      dsimp only
      split
      · refine OPq.c ⟨?_, rfl, esX.refl _⟩
        have h2 : 2 ≤ s.1 := by omega
        have a := szs_K (s := ((s.1 - 1, s.2.1, s.2.2) : Ms)) (k := stk s ++ stk ((s.1 - 1, s.2.1, s.2.2) : Ms)) (by show 1 ≤ s.1 - 1; omega)
        rw [szK_ap] at a
        have b : szN s.2.1 s.1 = szN s.2.1 (s.1 - 1) + szF (s.2.1 (s.1 - 1)) := by
          have e : s.1 = (s.1 - 1) + 1 := by omega
          have : szN s.2.1 ((s.1 - 1) + 1) = szN s.2.1 (s.1 - 1) + szF (s.2.1 (s.1 - 1)) := by
            unfold szN
            rw [List.range_succ, List.map_append, List.sum_append]
            simp
          rw [← e] at this
          exact this
        have c : szF (s.2.1 (s.1 - 1)) = szK (stk s) + szL (lcs s) := rfl
        have d : szs ((s.1 - 1, s.2.1, s.2.2) : Ms) = szN s.2.1 (s.1 - 1) + szE (ens s) := rfl
        have e : szs s = szN s.2.1 s.1 + szE (ens s) := rfl
        unfold SQ
        show _ ≤ szs s + gas s + 64 * (ens s).length + 1
        omega
      · trivial
  · trivial
end
