/-! a publication: structures of other modules -/
def mof (W : Wd) (cm : Md) (n : Nat) : Option Md := if n = 0 then some cm else W n
def las (env : Pc → Cn) (es : List En) (n : Nat) : List En := if n = 0 then es else qsk env es (2, lN n, 0)
def sok (W : Wd) (cm : Md) (s : Fx) : Bool := match mof W cm s.1 with
  | none => false
  | some m' => (match m'.2.1[s.2.1]? with
    | some s' => decide (s'.2.1 = s.2.2)
    | none => false)
/-- the entries behind asking for modules -/
def lkE (env : Pc → Cn) (ns : List Nat) (es : List En) : List En := ns.foldl (las env) es
def PDp (DP f a : Nat) : Prop := f = 10000 + 192 ∧ a = DP
/-- what a publication writes beyond what calls write -/
def P2 (DP X f a : Nat) : Prop := PDp DP f a ∨ (f = 2709 ∧ a = X) ∨ FS ccF f a
def OUL (wi W DP X : Nat) (h h' : AH) (o o' : Lc) : Prop := Fr (fun f a => IP W f a ∨ P2 DP X f a) h h' ∧ ∀ p : Sl, (p.1 = 0 ∨ 3 < p.1) ∨ p.2.1 ≠ wi → o' p = o p ∧ ∀ x, o p = some x → h'.R 3718 x.1 = h.R 3718 x.1
theorem OUL.trans {wi W DP X : Nat} {h h1 h2 : AH} {o o1 o2 : Lc} (a : OUL wi W DP X h h1 o o1) (b : OUL wi W DP X h1 h2 o1 o2) : OUL wi W DP X h h2 o o2 := ⟨a.1.trans b.1, fun p hp => by
  obtain ⟨a1, a2⟩ := a.2 p hp
  obtain ⟨b1, b2⟩ := b.2 p hp
  exact ⟨b1.trans a1, fun x hx => by rw [b2 x (by rw [a1]; exact hx), a2 x hx]⟩⟩
theorem OUL.refl {wi W DP X : Nat} {h : AH} {o : Lc} : OUL wi W DP X h h o o := ⟨Fr.refl h, fun p _ => ⟨rfl, fun _ _ => rfl⟩⟩
theorem OUT.ul {wi W DP X : Nat} {h h' : AH} {o o' : Lc} (a : OUT wi W h h' o o') : OUL wi W DP X h h' o o' := ⟨a.1.mono fun f a z => Or.inl z, a.2⟩
theorem P2.no {DP X : Nat} {l : List Nat} (h2 : l.all (fun f => !(f == 10000 + 192 || f == 2709 || ccF.contains f)) = true) : ∀ f a, l.contains f = true → ¬ P2 DP X f a := fun f a hf z => by
  rw [List.all_eq_true] at h2
  have := h2 f (List.contains_iff_mem.mp hf)
  simp only [Bool.not_eq_true', Bool.or_eq_false_iff] at this
  obtain ⟨⟨t1, t2⟩, t3⟩ := this
  rcases z with ⟨z, -⟩ | ⟨z, -⟩ | z
  · rw [z] at t1; simp at t1
  · rw [z] at t2; simp at t2
  · unfold FS at z; rw [t3] at z; cases z
theorem OUL.no {W DP X : Nat} {l : List Nat} (h : l.all (fun f => !((3712 ≤ f && f ≤ 3718) || f == 1280 || (ipM ++ ipL).contains f)) = true) (_ : l.all (fun f => !([2442, 2443].contains f)) = true) (h2 : l.all (fun f => !(f == 10000 + 192 || f == 2709 || ccF.contains f)) = true) : ∀ f a, l.contains f = true → ¬ (IP W f a ∨ P2 DP X f a) := fun f a hf z => by
  rcases z with z | z
  · exact IP.no h f a hf z
  · exact P2.no h2 f a hf z
theorem WRD.ul {h h' : AH} {o o' : Lc} {A W BA tt fs wi DP X : Nat} {MA : Ma} {st : Lw} {Lf : Nat → Lw} {RN : Nat → Int32} (u : OUL wi W DP X h h' o o') (w : WRD h o A W BA tt MA fs st Lf RN) : WRD h' o' A W BA tt MA fs st Lf RN := by
  refine w.fr u.1 (OUL.no rfl rfl rfl) (fun f a hf ha z => ?_) (fun p hp => (u.2 p (Or.inl hp)).1)
  rcases z with (z | z | z) | z
  · exact VQ.no (l := etF) rfl f a hf z
  · omega
  · have : ∀ f ∈ etF, ipL.contains f = false := by decide
    rw [this f (List.contains_iff_mem.mp hf)] at z; cases z
  · exact P2.no (l := etF) rfl f a hf z
/-- other modules, with their depths -/
def LKC (h : AH) (CM : Nat) (MA : Ma) (Wd' : Wd) (cm : Md) (DA : Nat → Nat) (dw : Nat → Nat → Nat) (DP : Nat) : Prop := ∀ n m', mof Wd' cm n = some m' → MDR h (if n = 0 then CM else MA.1 n) m' ∧ DPR h (if n = 0 then CM else MA.1 n) (DA n) (dw n) ∧ DA n ≠ DP ∧ (∀ k, k < m'.2.1.length → dw n k ≤ 24) ∧ gM m' ∧ smB m'
theorem LKC.ul {wi W DP X CM : Nat} {h h' : AH} {o o' : Lc} {MA : Ma} {Wd' : Wd} {cm : Md} {DA : Nat → Nat} {dw : Nat → Nat → Nat} (u : OUL wi W DP X h h' o o') (s : LKC h CM MA Wd' cm DA dw DP) : LKC h' CM MA Wd' cm DA dw DP := fun n m' hm => by
  obtain ⟨a, ⟨b1, b2, b3⟩, c, d⟩ := s n m' hm
  refine ⟨a.fr u.1 (OUL.no rfl rfl rfl), ⟨by rw [u.1.R (OUL.no (l := [131]) rfl rfl rfl _ _ rfl)]; exact b1, u.1.tag b2, fun k hk => ⟨?_, (b3 k hk).2⟩⟩, c, d⟩
  rw [u.1.EI (fun z => ?_)]
  · exact (b3 k hk).1
  · rcases z with z | ⟨-, z⟩ | z | z
    · exact IP.no (l := [10000 + 192]) (by decide) _ _ (by decide) z
    · exact c z
    · exact absurd z.1 (by decide)
    · exact FS.n (by decide) z
/-- what a publication stands on -/
def LKS (h : AH) (A CM M DP C CW : Nat) (MA : Ma) (Wd' : Wd) (cm m : Md) (DA : Nat → Nat) (dw : Nat → Nat → Nat) : Prop := (h.R 0 A = some CM ∧ MDR h M m) ∧ LKC h CM MA Wd' cm DA dw DP ∧ h.R 14 A = some C ∧ SCk h C CW ∧ h.tag CW = some (31, 0)
theorem LKS.ul {wi W DP X CM A M C CW : Nat} {h h' : AH} {o o' : Lc} {MA : Ma} {Wd' : Wd} {cm m : Md} {DA : Nat → Nat} {dw : Nat → Nat → Nat} (u : OUL wi W DP X h h' o o') (s : LKS h A CM M DP C CW MA Wd' cm m DA dw) : LKS h' A CM M DP C CW MA Wd' cm m DA dw := by
  obtain ⟨⟨a1, a2⟩, b, c, d, e⟩ := s
  exact ⟨⟨by rw [u.1.R (OUL.no (l := [0]) rfl rfl rfl _ _ rfl)]; exact a1, a2.fr u.1 (OUL.no rfl rfl rfl)⟩, b.ul u, by rw [u.1.R (OUL.no (l := [14]) rfl rfl rfl _ _ rfl)]; exact c, d.fr u.1 (OUL.no rfl rfl rfl), u.1.tag e⟩
theorem LKS.ma {DP CM A M C CW : Nat} {h : AH} {MA MA' : Ma} {Wd' : Wd} {cm m : Md} {DA : Nat → Nat} {dw : Nat → Nat → Nat} (e : MA'.1 = MA.1) (s : LKS h A CM M DP C CW MA Wd' cm m DA dw) : LKS h A CM M DP C CW MA' Wd' cm m DA dw := by
  obtain ⟨a, b, c⟩ := s
  refine ⟨a, fun n m' hm => ?_, c⟩
  rw [e]
  exact b n m' hm
theorem DPR.ou {P : Nat → Nat → Prop} {h h' : AH} {M DP : Nat} {dp : Nat → Nat} (u : Fr P h h') (n1 : ¬ P 131 M) (n2 : ¬ P (10000 + 192) DP) (s : DPR h M DP dp) : DPR h' M DP dp := by
  obtain ⟨b1, b2, b3⟩ := s
  exact ⟨by rw [u.R n1]; exact b1, u.tag b2, fun k hk => ⟨by rw [u.EI n2]; exact (b3 k hk).1, (b3 k hk).2⟩⟩
theorem DPR.oub {wi W : Nat} {h h' : AH} {o o' : Lc} {M DP : Nat} {dp : Nat → Nat} (u : OUB wi W h h' o o') (s : DPR h M DP dp) : DPR h' M DP dp := s.ou u.1 (IPB.no (l := [131]) rfl rfl _ _ rfl) (IPB.no (l := [10000 + 192]) (by decide) (by decide) _ _ (by decide))
theorem MAX.tr2 {n : Nat} {MA MA1 MA2 : Ma} {ps ps' : List Pc} {sc : Pc → Option (Int32 × Int32)} (a : MAX n MA MA1 ps sc) (b : MAX ps.length MA1 MA2 ps' sc) (hp : ∀ e, e < ps.length → ps'[e]? = ps[e]?) (hn : n ≤ ps.length) : MAX n MA MA2 ps' sc := by
  refine ⟨⟨b.1.1.trans a.1.1, b.1.2.trans a.1.2⟩, fun e he => (b.2.1 e (by omega)).trans (a.2.1 e he), fun e p he hq => ?_⟩
  rcases Nat.lt_or_ge e ps.length with q | q
  · rw [b.2.1 e q]
    exact a.2.2 e p he (by rw [← hp e q]; exact hq)
  · exact b.2.2 e p q hq
theorem qsk_p {env : Pc → Cn} {es : List En} {p : Pc} : es.length ≤ (qsk env es p).length ∧ ∀ e, e < es.length → ((qsk env es p).map fun x => x.1)[e]? = (es.map fun x => x.1)[e]? := by
  unfold qsk
  split
  · exact ⟨Nat.le_refl _, fun _ _ => rfl⟩
  · refine ⟨by rw [List.length_append]; omega, fun e he => ?_⟩
    rw [List.map_append, List.getElem?_append_left (by rw [List.length_map]; exact he)]
section
variable {G : Gt} {B d : Nat} {h : AH} {l : List Nat} {o : Lc} {wi W A q BA X tt lim SP : Nat} {snd : Int64} {MA : Ma} {K : Outcome → AH → Prop} {fs : Nat} {fx : Option Nat} {st : Lw} {Lf : Nat → Lw} {RN : Nat → Int32}
theorem MW_mod1 {CM : Nat} (t0 : h.tag A = some (0, 0)) (hc : h.R 0 A = some CM) (kk : K (.returned (some (.ref CM))) h) : MW G d e_X1_module [.ref A, .int (nI 0), .int (nI 0)] h K := by
  refine st_X1_module fun XX oo hG hD _ => ?_
  subst hG; subst hD
  refine k_X1_module_0 oo (fun c => absurd rfl c) (fun _ => ?_)
  exact k_X1_module_4 (x3 := some CM) (r2 := hc) oo kk
/-- a module, or the coin -/
theorem cmod_l {n ak g CM : Nat} {F : Nat → Fm} {es : List En} {Wd' : Wd} {cm : Md} (H : OPQ 0 fx G B h A W q BA X tt snd lim SP wi MA l o (0, F, es, ak, g)) (wd : WRD h o A W BA tt MA fs st Lf RN) (hcn : h.R 0 A = some CM) (hnb : n < 65536) (hn2 : es.length < 26) (hak : ak ≤ 24) (hes : ∀ x ∈ es, x.1.1 = 2 → x.2.2.1 = vew st Lf fs tt x.1) (hE : EVW Wd' (vew st Lf fs tt)) (hg : ∀ p, gss Lf fs tt p = none) (hd : 52 ≤ d) (kk : ∀ h' l' o' MA', OUT wi W h h' o o' → OPQ 0 fx G B h' A W q BA X tt snd lim SP wi MA' l' o' (0, F, las (vew st Lf fs tt) es n, ak, g) → MAX es.length MA MA' ((las (vew st Lf fs tt) es n).map fun x => x.1) (sco Lf RN fs tt) → K (.returned (some (va_rf (if (mof Wd' cm n).isSome = true then some (if n = 0 then CM else MA.1 n) else none)))) h') : MW G d e_X1_module [.ref A, .int (nI n), .int (nI 0)] h K := by
  by_cases c : n = 0
  · subst c
    refine MW_mod1 H.1.1.1 hcn ?_
    have e : las (vew st Lf fs tt) es 0 = es := if_pos rfl
    have := kk h l o MA OUT.refl (by rw [e]; exact H) (by rw [e]; exact MAX.refl (by rw [List.length_map]; exact Nat.le_refl _))
    unfold mof at this
    rw [if_pos rfl, if_pos rfl] at this
    exact this
  · have e : las (vew st Lf fs tt) es n = qsk (vew st Lf fs tt) es (2, lN n, 0) := if_neg c
    refine cmod_p H wd (by omega) hnb hn2 hak hes ((hE.1 _).2.1 (by show (2 : Nat) ≠ 3; decide)) hg hd fun h1 l1 o1 MA1 u1 H1 m1 mx1 a1 => ?_
    have k1 := kk h1 l1 o1 MA1 u1 (by rw [e]; exact H1) (by rw [e]; exact mx1)
    have em : mof Wd' cm n = Wd' n := if_neg c
    rw [em, if_neg c] at k1
    have : (vew st Lf fs tt (2, lN n, 0)).1 = true ↔ (Wd' n).isSome = true := by
      constructor
      · intro z
        obtain ⟨-, m, hm⟩ := hE.2.2.1 n hnb z
        rw [hm]; rfl
      · intro z
        obtain ⟨m, hm⟩ := Option.isSome_iff_exists.mp z
        exact hE.2.1 n m hm c
    by_cases t : (Wd' n).isSome = true
    · rw [if_pos t] at k1
      rw [if_pos (this.mpr t)]; exact k1
    · rw [if_neg t] at k1
      rw [if_neg (fun z => t (this.mp z))]; exact k1
end
