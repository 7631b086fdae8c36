/-! asking for a place, whole -/
def lfd (l : Lw) (p : Pc) : Option (Cn × Bool) := match l.findIdx? (fun x => x.1 == p) with
  | some e => (l[e]?).map fun x => x.2
  | none => none
def lfc (l : Lw) (p : Pc) : Cn := match lfd l p with
  | some x => nrm x.1
  | none => (false, 0, 0, none)
/-- what a place holds for one that comes behind others -/
def vew (st : Lw) (Lf : Nat → Lw) (fs tt : Nat) (p : Pc) : Cn := match bfr Lf p fs tt with
  | some k => lfc (Lf k) p
  | none => acf st (-1) p (lfc st p)
def gss (Lf : Nat → Lw) (fs tt : Nat) (p : Pc) : Option Nat := match bfr Lf p fs tt with
  | some k => (match lfd (Lf k) p with
    | some x => if x.2 then some k else none
    | none => none)
  | none => none
def sce (Lf : Nat → Lw) (RN : Nat → Int32) (fs tt : Nat) (p : Pc) : Int32 × Int32 := match bfr Lf p fs tt with
  | some k => (nI k, RN k)
  | none => (-1, 0)
theorem fidx_at {l : Lw} {p : Pc} {e : Nat} (h : (l.findIdx? fun x => x.1 == p) = some e) : ∃ x, l[e]? = some (p, x) := by
  rw [List.findIdx?_eq_some_iff_getElem] at h
  obtain ⟨h1, h2, -⟩ := h
  refine ⟨l[e].2, ?_⟩
  rw [List.getElem?_eq_getElem h1]
  have : l[e].1 = p := by simpa using h2
  rw [← this]
section
variable {G : Gt} {B d : Nat} {h : AH} {l : List Nat} {o : Lc} {wi W A q BA X tt lim SP t : Nat} {snd : Int64} {MA : Ma} {s : Ms} {K : Outcome → AH → Prop} {fs z : Nat} {fx : Option Nat} {st : Lw} {Lf : Nat → Lw} {RN : Nat → Int32}
theorem WkQ.etp (w : WkQ z h o wi W MA s) : EtP h (W + 2) 30 ((ens s).map fun x => x.1) := by
  obtain ⟨⟨⟨-, ⟨s4, s5, s6, s7⟩, -, s9⟩, -⟩, -, -, ⟨e1, e2⟩, e3, e4⟩ := w
  refine ⟨⟨⟨s5, s6, s7⟩, fun e he => ?_⟩, ⟨by rw [List.length_map]; exact e1, by rw [List.length_map]; omega, by omega⟩, fun e p hp => ?_⟩
  · have := s9 e he
    unfold Ea at this
    exact this
  · rw [List.getElem?_map] at hp
    cases hx : (ens s)[e]? with
    | none => rw [hx] at hp; cases hp
    | some x =>
      rw [hx] at hp
      have e : x.1 = p := Option.some.inj hp
      subst e
      obtain ⟨⟨a1, a2, a3, a4⟩, -⟩ := e3 _ x hx
      unfold Ea at a1 a2 a3
      exact ⟨⟨a1, a2, a3⟩, a4⟩
theorem WkQ.ak {g : Nat} {h' : AH} (w : WkQ z h o wi W MA s) (f : Fq (P1 2441 W) h h') (e : h'.I 2441 W = nI g) : WkQ z h' o wi W MA (s.1, s.2.1, ens s, g, gas s) := by
  obtain ⟨⟨w1, w2, w3, w4, w5, w6⟩, w7, w8, w9⟩ := w
  have np : ∀ g a, g ≠ 2441 → ¬ P1 2441 W g a := fun g a h1 z => h1 z.1
  have sub : ∀ l' : List Nat, l'.all (fun f => !(f == 2441)) = true → ∀ f a, l'.contains f = true → ¬ P1 2441 W f a := fun l' hl f a hf => np f a (fun e => by
    rw [List.all_eq_true] at hl
    have := hl f (List.contains_iff_mem.mp hf)
    rw [e] at this; simp at this)
  exact ⟨⟨w1.fr f.1 (sub swF rfl), by rw [f.1.I (np _ _ (by decide))]; exact w2, w3, w4, by rw [f.1.I (np _ _ (by decide))]; exact w5, e⟩, fun j hj => (w7 j hj).keep f.1 (fun g a hg _ _ => sub fmF rfl g a hg) (fun _ _ _ => rfl) (fun c i x _ hx => f.1.R (np _ _ (by decide))) (fun r _ a ha => ha), w8, w9.keep f.1 (fun g a hg _ _ => sub enF rfl g a hg) (fun _ _ => rfl)⟩
theorem OPQ.ak {g : Nat} {h' : AH} (H : OPQ z fx G B h A W q BA X tt snd lim SP wi MA l o s) (f : Fq (P1 2441 W) h h') (e : h'.I 2441 W = nI g) : OUT wi W h h' o o ∧ OPQ z fx G B h' A W q BA X tt snd lim SP wi MA l o (s.1, s.2.1, ens s, g, gas s) ∧ av G h' l = av G h l := by
  obtain ⟨c, v, w, hf, hg, hw⟩ := H
  have fi : Fr (IP W) h h' := f.1.mono fun g a z => by
    obtain ⟨z1, z2⟩ := z
    exact Or.inr (Or.inl ⟨by rw [z1]; decide, by omega, by omega⟩)
  obtain ⟨v1, tg⟩ := v.oth f (fun g a z z2 => by
    rw [z2.1] at z
    rcases z with z | z
    · exact absurd z (by decide)
    · exact absurd z (by decide))
  have np : ∀ g a, g ≠ 2441 → ¬ P1 2441 W g a := fun g a h1 z => h1 z.1
  exact ⟨OUT.mk0 fi tg, ⟨c.ip fi, v1, w.ak f e, by rw [f.1.R (np _ _ (by decide))]; exact hf, hg, hw.fr f.1 (fun _ => np _ _ (by decide)) (fun _ => np _ _ (by decide))⟩, by unfold av; rw [f.2.1]⟩
theorem eplace_ok {a : Nat} {k b : Int32} {x : Int64} (t0 : h.tag a = some (9, 0)) (kk : K (.returned none) (((h.sI 1152 a k).sJ 1153 a x).sI 1154 a b)) : MW G d e_X10_place [.ref a, .int k, .long x, .int b] h K := by
  refine st_X10_place fun X oo hG hD _ => ?_
  subst hG; subst hD
  exact k_X10_place_0 oo kk
theorem nn_I {k : Nat} (h : k < 2147483648) : (0 : Int32) ≤ nI k := Int32.not_lt.mp (nI_nn h)
/-- where a found entry lies -/
theorem EtR.src {c i E m n e : Nat} {ls : Lw} {p : Pc} {x : Cn × Bool} (r : EtR h o c i E m MA ls) (hx : ls[e]? = some (p, x)) (hE : E + 2 + m ≤ W ∨ W + 130 ≤ E) (hn : n < 26) (hc : c ≠ 3) : SRC h o wi W n MA p (some (E + 2 + e)) (nrm x.1) ∧ h.I 1164 (E + 2 + e) = bI x.2 ∧ h.tag (E + 2 + e) = some (9, 0) := by
  have he : e < m := by
    have := get_lt hx
    have := r.1.2.1.2.1
    simp at this
    omega
  have tg := (r.1.1.2 e he).2
  obtain ⟨⟨a1, a2, a3⟩, ⟨b1, b2⟩, c1⟩ := r.2.1 e _ hx
  refine ⟨⟨x.1, rfl, by unfold Ea; omega, tg, ⟨a1, a2, a3⟩, b2, ?_⟩, b1, tg⟩
  change (match x.1.2.2.2 with
    | some v => ∃ y, o (c, i, e, 0) = some y ∧ h.R 1159 (E + 2 + e) = some y.1 ∧ lvE y = v
    | none => o (c, i, e, 0) = none ∧ h.R 1159 (E + 2 + e) = none) at c1
  cases hv : x.1.2.2.2 with
  | none => rw [hv] at c1; exact c1.2
  | some v =>
    rw [hv] at c1
    obtain ⟨y, y1, y2, y3⟩ := c1
    exact ⟨y, ⟨_, fun e => hc (congrArg Prod.fst e), y1⟩, y2, y3⟩
theorem ask_141 {XX : Xt} (oo : OK e_X1_ask XX) {p : Pc} {n : Nat} {fr rn cnt : Int32} {l6 : Value} {src : Option Nat} {c : Cn} (H : OPQ z fx XX.G B h A W q BA X tt snd lim SP wi MA l o s) (wd : WRD h o A W BA tt MA fs st Lf RN) (hn : n = (ens s).length) (hn2 : n < 26) (hp : PB p) (hrn : (¬ 0 ≤ fr ∧ rn = 0) ∨ ∃ k, k < 32 ∧ fr = nI k ∧ rn = RN k) (sr : SRC h o wi W n MA p src c) (hs4 : ¬ 0 ≤ fr → 4 ≤ p.1 → src = none) (hv : ∀ v, c.2.2.2 = some v → vsz v ≤ av XX.G h l ∧ fdp v.2.2 ≤ 40) (hd : 50 ≤ XX.d) (kk : ∀ h' l' o', OUT wi W h h' o o' → OPQ z fx XX.G B h' A W q BA X tt snd lim SP wi (maU MA n (fr, rn)) l' o' (s.1, s.2.1, ens s ++ [(p, acf st fr p c, acf st fr p c, false)], s.2.2.2.1, gas s) → av XX.G h' l' + csz (acf st fr p c) = av XX.G h l → K (.returned (some (.ref (Ea W n)))) h') : V XX K 141 [.ref A, .int (nI p.1), .long p.2.1, nov, .int (nI p.2.2), .int cnt, l6, .int fr, va_rf src] [] h := by
  have ⟨cx, v, w, hf, hg, hw⟩ := H
  obtain ⟨⟨c1, c2, c3, c4, c5⟩, ⟨c6, -⟩, -⟩ := id cx
  obtain ⟨⟨⟨w1, -⟩, ⟨w2, w3, w4, w5⟩, -, w6⟩, -⟩ := w.1
  obtain ⟨⟨w7, w8⟩, -, -⟩ := w.2.2.2
  obtain ⟨w9, w10⟩ := w6 n (by omega)
  rw [← hn] at w7
  have ix : IX (nI n) 30 n := IX.mk (by omega) (by omega)
  refine k_X1_ask_141 oo ?_
  rw [nI_add]
  refine eplace_ok w10 ?_
  generalize hh1 : (((h.sI 1025 (W + 2) (nI (n + 1))).sI 1152 (Ea W n) (nI p.1)).sJ 1153 (Ea W n) p.2.1).sI 1154 (Ea W n) (nI p.2.2) = h1
  have f1 : Fq (PE0 W n) h h1 := by subst hh1; exact (by refine (Fq.sI (Fq.sJ (Fq.sI (Fq.sI (Fq.refl h) ?_) ?_) ?_) ?_) <;> first | exact Or.inl ⟨rfl, rfl⟩ | exact Or.inr ⟨rfl, rfl⟩)
  have e0 : h1.I 1025 (W + 2) = nI (n + 1) := by subst hh1; simp [n_sI, z_sI, tag_sI, I_sI, J_sI, R_sI, EI_sI, EJ_sI, ER_sI, n_sJ, z_sJ, tag_sJ, I_sJ, J_sJ, R_sJ, EI_sJ, EJ_sJ, ER_sJ, n_sR, z_sR, tag_sR, I_sR, J_sR, R_sR, EI_sR, EJ_sR, ER_sR, n_sEI, z_sEI, tag_sEI, I_sEI, J_sEI, R_sEI, EI_sEI, EJ_sEI, ER_sEI, n_sEJ, z_sEJ, tag_sEJ, I_sEJ, J_sEJ, R_sEJ, EI_sEJ, EJ_sEJ, ER_sEJ, n_sER, z_sER, tag_sER, I_sER, J_sER, R_sER, EI_sER, EJ_sER, ER_sER, n_nw, z_nw, tag_nw, I_nw, J_nw, R_nw, EI_nw, EJ_nw, ER_nw]
  have e1 : h1.I 1152 (Ea W n) = nI p.1 := by subst hh1; simp [n_sI, z_sI, tag_sI, I_sI, J_sI, R_sI, EI_sI, EJ_sI, ER_sI, n_sJ, z_sJ, tag_sJ, I_sJ, J_sJ, R_sJ, EI_sJ, EJ_sJ, ER_sJ, n_sR, z_sR, tag_sR, I_sR, J_sR, R_sR, EI_sR, EJ_sR, ER_sR, n_sEI, z_sEI, tag_sEI, I_sEI, J_sEI, R_sEI, EI_sEI, EJ_sEI, ER_sEI, n_sEJ, z_sEJ, tag_sEJ, I_sEJ, J_sEJ, R_sEJ, EI_sEJ, EJ_sEJ, ER_sEJ, n_sER, z_sER, tag_sER, I_sER, J_sER, R_sER, EI_sER, EJ_sER, ER_sER, n_nw, z_nw, tag_nw, I_nw, J_nw, R_nw, EI_nw, EJ_nw, ER_nw]
  have e2 : h1.J 1153 (Ea W n) = p.2.1 := by subst hh1; simp [n_sI, z_sI, tag_sI, I_sI, J_sI, R_sI, EI_sI, EJ_sI, ER_sI, n_sJ, z_sJ, tag_sJ, I_sJ, J_sJ, R_sJ, EI_sJ, EJ_sJ, ER_sJ, n_sR, z_sR, tag_sR, I_sR, J_sR, R_sR, EI_sR, EJ_sR, ER_sR, n_sEI, z_sEI, tag_sEI, I_sEI, J_sEI, R_sEI, EI_sEI, EJ_sEI, ER_sEI, n_sEJ, z_sEJ, tag_sEJ, I_sEJ, J_sEJ, R_sEJ, EI_sEJ, EJ_sEJ, ER_sEJ, n_sER, z_sER, tag_sER, I_sER, J_sER, R_sER, EI_sER, EJ_sER, ER_sER, n_nw, z_nw, tag_nw, I_nw, J_nw, R_nw, EI_nw, EJ_nw, ER_nw]
  have e3 : h1.I 1154 (Ea W n) = nI p.2.2 := by subst hh1; simp [n_sI, z_sI, tag_sI, I_sI, J_sI, R_sI, EI_sI, EJ_sI, ER_sI, n_sJ, z_sJ, tag_sJ, I_sJ, J_sJ, R_sJ, EI_sJ, EJ_sJ, ER_sJ, n_sR, z_sR, tag_sR, I_sR, J_sR, R_sR, EI_sR, EJ_sR, ER_sR, n_sEI, z_sEI, tag_sEI, I_sEI, J_sEI, R_sEI, EI_sEI, EJ_sEI, ER_sEI, n_sEJ, z_sEJ, tag_sEJ, I_sEJ, J_sEJ, R_sEJ, EI_sEJ, EJ_sEJ, ER_sEJ, n_sER, z_sER, tag_sER, I_sER, J_sER, R_sER, EI_sER, EJ_sER, ER_sER, n_nw, z_nw, tag_nw, I_nw, J_nw, R_nw, EI_nw, EJ_nw, ER_nw]
  have tE : h1.tag (Ea W n) = some (9, 0) := f1.1.tag w10
  have core := ask_core oo (h1 := h1.sI 1160 (Ea W n) fr) (rn := rn) (cnt := cnt) H wd hn hn2 hp (f1.sI (Or.inr ⟨rfl, rfl⟩)) (by simp [n_sI, z_sI, tag_sI, I_sI, J_sI, R_sI, EI_sI, EJ_sI, ER_sI, n_sJ, z_sJ, tag_sJ, I_sJ, J_sJ, R_sJ, EI_sJ, EJ_sJ, ER_sJ, n_sR, z_sR, tag_sR, I_sR, J_sR, R_sR, EI_sR, EJ_sR, ER_sR, n_sEI, z_sEI, tag_sEI, I_sEI, J_sEI, R_sEI, EI_sEI, EJ_sEI, ER_sEI, n_sEJ, z_sEJ, tag_sEJ, I_sEJ, J_sEJ, R_sEJ, EI_sEJ, EJ_sEJ, ER_sEJ, n_sER, z_sER, tag_sER, I_sER, J_sER, R_sER, EI_sER, EJ_sER, ER_sER, n_nw, z_nw, tag_nw, I_nw, J_nw, R_nw, EI_nw, EJ_nw, ER_nw]; exact e0) (by simp [n_sI, z_sI, tag_sI, I_sI, J_sI, R_sI, EI_sI, EJ_sI, ER_sI, n_sJ, z_sJ, tag_sJ, I_sJ, J_sJ, R_sJ, EI_sJ, EJ_sJ, ER_sJ, n_sR, z_sR, tag_sR, I_sR, J_sR, R_sR, EI_sR, EJ_sR, ER_sR, n_sEI, z_sEI, tag_sEI, I_sEI, J_sEI, R_sEI, EI_sEI, EJ_sEI, ER_sEI, n_sEJ, z_sEJ, tag_sEJ, I_sEJ, J_sEJ, R_sEJ, EI_sEJ, EJ_sEJ, ER_sEJ, n_sER, z_sER, tag_sER, I_sER, J_sER, R_sER, EI_sER, EJ_sER, ER_sER, n_nw, z_nw, tag_nw, I_nw, J_nw, R_nw, EI_nw, EJ_nw, ER_nw]; exact e1) (by simp [n_sI, z_sI, tag_sI, I_sI, J_sI, R_sI, EI_sI, EJ_sI, ER_sI, n_sJ, z_sJ, tag_sJ, I_sJ, J_sJ, R_sJ, EI_sJ, EJ_sJ, ER_sJ, n_sR, z_sR, tag_sR, I_sR, J_sR, R_sR, EI_sR, EJ_sR, ER_sR, n_sEI, z_sEI, tag_sEI, I_sEI, J_sEI, R_sEI, EI_sEI, EJ_sEI, ER_sEI, n_sEJ, z_sEJ, tag_sEJ, I_sEJ, J_sEJ, R_sEJ, EI_sEJ, EJ_sEJ, ER_sEJ, n_sER, z_sER, tag_sER, I_sER, J_sER, R_sER, EI_sER, EJ_sER, ER_sER, n_nw, z_nw, tag_nw, I_nw, J_nw, R_nw, EI_nw, EJ_nw, ER_nw]; exact e2) (by simp [n_sI, z_sI, tag_sI, I_sI, J_sI, R_sI, EI_sI, EJ_sI, ER_sI, n_sJ, z_sJ, tag_sJ, I_sJ, J_sJ, R_sJ, EI_sJ, EJ_sJ, ER_sJ, n_sR, z_sR, tag_sR, I_sR, J_sR, R_sR, EI_sR, EJ_sR, ER_sR, n_sEI, z_sEI, tag_sEI, I_sEI, J_sEI, R_sEI, EI_sEI, EJ_sEI, ER_sEI, n_sEJ, z_sEJ, tag_sEJ, I_sEJ, J_sEJ, R_sEJ, EI_sEJ, EJ_sEJ, ER_sEJ, n_sER, z_sER, tag_sER, I_sER, J_sER, R_sER, EI_sER, EJ_sER, ER_sER, n_nw, z_nw, tag_nw, I_nw, J_nw, R_nw, EI_nw, EJ_nw, ER_nw]; exact e3) (by simp [n_sI, z_sI, tag_sI, I_sI, J_sI, R_sI, EI_sI, EJ_sI, ER_sI, n_sJ, z_sJ, tag_sJ, I_sJ, J_sJ, R_sJ, EI_sJ, EJ_sJ, ER_sJ, n_sR, z_sR, tag_sR, I_sR, J_sR, R_sR, EI_sR, EJ_sR, ER_sR, n_sEI, z_sEI, tag_sEI, I_sEI, J_sEI, R_sEI, EI_sEI, EJ_sEI, ER_sEI, n_sEJ, z_sEJ, tag_sEJ, I_sEJ, J_sEJ, R_sEJ, EI_sEJ, EJ_sEJ, ER_sEJ, n_sER, z_sER, tag_sER, I_sER, J_sER, R_sER, EI_sER, EJ_sER, ER_sER, n_nw, z_nw, tag_nw, I_nw, J_nw, R_nw, EI_nw, EJ_nw, ER_nw]) sr hs4 hv hd kk
  rcases hrn with ⟨r1, r2⟩ | ⟨k, r0, r1, r2⟩
  · refine k_X1_ask_189 oo (fun c => absurd c r1) (fun _ => ?_)
    refine k_X1_ask_203 oo ?_
    subst r2
    exact core
  · subst r1
    refine k_X1_ask_189 oo (fun _ => ?_) (fun c => absurd (nn_I (by omega)) c)
    obtain ⟨XA, LA, x1, x2, x3, x4, -⟩ := wd.2.2 k r0
    have ix2 : IX (nI k) 32 k := IX.mk (by omega) (by omega)
    have ff : Fq (PE0 W n) h (h1.sI 1160 (Ea W n) (nI k)) := f1.sI (Or.inr ⟨rfl, rfl⟩)
    have np : ∀ g a, ([3, 10000 + 71, 2703]).contains g = true → ¬ PE0 W n g a := fun g a hg z => PEV.no (W := W) (n := n) rfl g a hg (PE0.pv _ _ z)
    refine k_X1_ask_207 (t1 := ff.1.tag c1) (r2 := by rw [ff.1.R (np _ _ rfl)]; exact c4) (t4 := ff.1.tag c6) (r8 := by rw [ff.1.ER (np _ _ rfl)]; exact x1) (t10 := ff.1.tag x2) (x12 := RN k) (r11 := by rw [ff.1.I (np _ _ rfl)]; exact x4) oo ?_
    rw [← r2]
    exact core
end
