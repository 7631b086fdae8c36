/-! a call begins: from the first step -/
def IPB (W g a : Nat) : Prop := IP W g a ∨ ((g = 2442 ∨ g = 2443) ∧ a = W)
theorem IPB.no {W : Nat} {l : List Nat} (h : l.all (fun f => !((3712 ≤ f && f ≤ 3718) || f == 1280 || (ipM ++ ipL).contains f)) = true) (h2 : l.all (fun f => !([2442, 2443].contains f)) = true) : ∀ f a, l.contains f = true → ¬ IPB W f a := fun f a hf z => by
  rcases z with z | z
  · exact IP.no h f a hf z
  · rw [List.all_eq_true] at h2
    have := h2 f (List.contains_iff_mem.mp hf)
    rcases z.1 with y | y <;> (rw [y] at this; exact absurd this (by decide))
def OUB (wi W : Nat) (h h' : AH) (o o' : Lc) : Prop := Fr (IPB W) h h' ∧ ∀ p : Sl, (p.1 = 0 ∨ 3 < p.1) ∨ p.2.1 ≠ wi → o' p = o p ∧ ∀ x, o p = some x → h'.R 3718 x.1 = h.R 3718 x.1
theorem OUT.oub {wi W : Nat} {h h' : AH} {o o' : Lc} (a : OUT wi W h h' o o') : OUB wi W h h' o o' := ⟨a.1.mono fun f a z => Or.inl z, a.2⟩
theorem OUB.trans {wi W : Nat} {h h1 h2 : AH} {o o1 o2 : Lc} (a : OUB wi W h h1 o o1) (b : OUB wi W h1 h2 o1 o2) : OUB wi W h h2 o o2 := ⟨a.1.trans b.1, fun p hp => by
  obtain ⟨a1, a2⟩ := a.2 p hp
  obtain ⟨b1, b2⟩ := b.2 p hp
  exact ⟨b1.trans a1, fun x hx => by rw [b2 x (by rw [a1]; exact hx), a2 x hx]⟩⟩
theorem WRD.oub {h h' : AH} {o o' : Lc} {A W BA tt fs wi : Nat} {MA : Ma} {st : Lw} {Lf : Nat → Lw} {RN : Nat → Int32} (u : OUB wi W h h' o o') (w : WRD h o A W BA tt MA fs st Lf RN) : WRD h' o' A W BA tt MA fs st Lf RN := by
  refine w.fr u.1 (IPB.no rfl rfl) (fun f a hf ha z => ?_) (fun p hp => (u.2 p (Or.inl hp)).1)
  rcases z with (z | z | z) | z
  · exact VQ.no (l := etF) rfl f a hf z
  · omega
  · have : ∀ f ∈ etF, ipL.contains f = false := by decide
    rw [this f (List.contains_iff_mem.mp hf)] at z; cases z
  · rcases z.1 with y | y <;> (rw [y] at hf; exact absurd hf (by decide))
theorem WHY.oub {h h' : AH} {o o' : Lc} {A W CM wi : Nat} {MA : Ma} {Wd' : Wd} (u : OUB wi W h h' o o') (w : WHY h A CM MA Wd') : WHY h' A CM MA Wd' := ⟨by rw [u.1.R (IPB.no (l := [0]) rfl rfl _ _ rfl)]; exact w.1, fun n m' hm => by
  obtain ⟨a, b⟩ := w.2 n m' hm
  exact ⟨a.fr u.1 (IPB.no rfl rfl), b⟩⟩
/-- the coin's functions cannot be called from outside -/
def CNY (h : AH) (CM : Nat) : Prop := ∃ mc : Md, MDR h CM mc ∧ mc.2.2.2.2.2.length = 6 ∧ ∀ u ∈ mc.2.2.2.2.2, u.1 ≤ 7 ∧ u.1 &&& 2 = 0
theorem CNY.fr {P : Nat → Nat → Prop} {h h' : AH} {CM : Nat} (q : Fr P h h') (np : ∀ f a, mdlF.contains f = true → ¬ P f a) (s : CNY h CM) : CNY h' CM := by
  obtain ⟨mc, a, b⟩ := s
  exact ⟨mc, a.fr q np, b⟩
/-- what is owed where a call is refused -/
def RFK (K : Outcome → AH → Prop) (G : Gt) (B : Nat) (h : AH) (A W q BA X tt : Nat) (snd : Int64) (lim SP wi : Nat) (MA : Ma) (o : Lc) (sc : Pc → Option (Int32 × Int32)) (e : Int64 × List En) : Prop := ∀ h' l' o' MA' s' fx, OUB wi W h h' o o' → OPQ 0 fx G B h' A W q BA X tt snd lim SP wi MA' l' o' s' → (s'.1 = 0 ∧ ens s' = e.2 ∧ gas s' = 0) → CLR s' → MAX 0 MA MA' (plc s') sc → h'.I 24 A = nI 3 → h'.J 25 A = e.1 → K (.threw SP) h'
/-- what is owed where a call has to wait at its beginning -/
def WTB (K : Outcome → AH → Prop) (G : Gt) (B : Nat) (h : AH) (A W q BA X tt : Nat) (snd : Int64) (lim SP wi : Nat) (o : Lc) (Lf : Nat → Lw) (fs : Nat) : Prop := ∀ k p, PB p → gss Lf fs tt p = some k → ∀ h' l' o' MA' s' fx, OUB wi W h h' o o' → OPQ 0 fx G B h' A W q BA X tt snd lim SP wi MA' l' o' s' → CLR s' → h'.I 24 A = nI 9 → h'.J 25 A = lN k → K (.threw SP) h'
/-! the pure side, step by step -/
section
variable {W : Wd} {x : TxC} {env : Pc → Cn} {c : Cn}
theorem mbg_1 (hc : env (1, x.1, 0) = c) (h : c.1 = false) : mbg W x env = .error (1, [((1, x.1, 0), c, c, false)]) := by
  unfold mbg; simp only [hc]; rw [if_pos h]
theorem mbg_2 (hc : env (1, x.1, 0) = c) (h1 : c.1 = true) (h : c.2.2.1 ≠ x.2.1) : mbg W x env = .error (2, [((1, x.1, 0), c, c, false)]) := by
  unfold mbg; simp only [hc]; rw [if_neg (by rw [h1]; decide), if_pos h]
theorem mbg_3 (hc : env (1, x.1, 0) = c) (h1 : c.1 = true) (h2 : c.2.2.1 = x.2.1) (h : c.2.1 < lN x.2.2.1) : mbg W x env = .error (3, [((1, x.1, 0), c, c, false)]) := by
  unfold mbg; simp only [hc]; rw [if_neg (by rw [h1]; decide), if_neg (fun z => z h2), if_pos h]
def mb3 (x : TxC) (c : Cn) : Prop := c.1 = true ∧ c.2.2.1 = x.2.1 ∧ ¬ c.2.1 < lN x.2.2.1
theorem mbg_0 (hc : env (1, x.1, 0) = c) (hb : mb3 x c) (h : x.2.2.2.1 = 0) : mbg W x env = .error (if 6 ≤ x.2.2.2.2.1 then 5 else 6, [((1, x.1, 0), c, c, false)]) := by
  unfold mbg; simp only [hc]; rw [if_neg (by rw [hb.1]; decide), if_neg (fun z => z hb.2.1), if_neg hb.2.2, if_pos h]
theorem mbg_4 {c1 : Cn} (hc : env (1, x.1, 0) = c) (hb : mb3 x c) (h : x.2.2.2.1 ≠ 0) (hc1 : env (2, lN x.2.2.2.1, 0) = c1) (hm : W x.2.2.2.1 = none) : mbg W x env = .error (4, [((1, x.1, 0), c, c, false), ((2, lN x.2.2.2.1, 0), c1, c1, false)]) := by
  unfold mbg; simp only [hc, hc1]; rw [if_neg (by rw [hb.1]; decide), if_neg (fun z => z hb.2.1), if_neg hb.2.2, if_neg h]; simp only [hm]
theorem mbg_5 {c1 : Cn} {m : Md} (hc : env (1, x.1, 0) = c) (hb : mb3 x c) (h : x.2.2.2.1 ≠ 0) (hc1 : env (2, lN x.2.2.2.1, 0) = c1) (hm : W x.2.2.2.1 = some m) (hu : m.2.2.2.2.2[x.2.2.2.2.1]? = none) : mbg W x env = .error (5, [((1, x.1, 0), c, c, false), ((2, lN x.2.2.2.1, 0), c1, c1, false)]) := by
  unfold mbg; simp only [hc, hc1]; rw [if_neg (by rw [hb.1]; decide), if_neg (fun z => z hb.2.1), if_neg hb.2.2, if_neg h]; simp only [hm, hu]
theorem mbg_n {c1 : Cn} {m : Md} {u : Ux} (hc : env (1, x.1, 0) = c) (hb : mb3 x c) (h : x.2.2.2.1 ≠ 0) (hc1 : env (2, lN x.2.2.2.1, 0) = c1) (hm : W x.2.2.2.1 = some m) (hu : m.2.2.2.2.2[x.2.2.2.2.1]? = some u) : mbg W x env = if u.1 &&& 2 = 0 then .error (6, [((1, x.1, 0), c, c, false), ((2, lN x.2.2.2.1, 0), c1, c1, false)]) else if fts u x.2.2.2.2.2 = false then .error (7, [((1, x.1, 0), c, c, false), ((2, lN x.2.2.2.1, 0), c1, c1, false)]) else if pln u = false then .error (8, [((1, x.1, 0), c, c, false), ((2, lN x.2.2.2.1, 0), c1, c1, false)])
        else .ok (1, fun _ => ent (x.2.2.2.1, x.2.2.2.2.1) (agi x.2.2.2.2.2), [((1, x.1, 0), c, (c.1, c.2.1 - lN x.2.2.1, c.2.2.1 + 1, c.2.2.2), true), ((2, lN x.2.2.2.1, 0), c1, c1, false)], 2, 0) := by
  unfold mbg; simp only [hc, hc1]; rw [if_neg (by rw [hb.1]; decide), if_neg (fun z => z hb.2.1), if_neg hb.2.2, if_neg h]; simp only [hm, hu]
end
section
variable {G : Gt} {B d : Nat} {h : AH} {l : List Nat} {o : Lc} {wi W A q BA X tt lim SP t : Nat} {snd : Int64} {MA : Ma} {s : Ms} {K : Outcome → AH → Prop} {fs z : Nat} {fx : Option Nat} {st : Lw} {Lf : Nat → Lw} {RN : Nat → Int32}
/-- a module that was not asked for yet -/
theorem cmod_q {n : Nat} {cb : Bool} (H : OPQ z fx G B h A W q BA X tt snd lim SP wi MA l o s) (wd : WRD h o A W BA tt MA fs st Lf RN) (hn0 : 0 < n) (hnb : n < 65536) (hfi : ((ens s).findIdx? fun x => x.1 == (2, lN n, 0)) = none) (hn2 : (ens s).length < 26) (hak : s.2.2.2.1 < 24) (hv : (vew st Lf fs tt (2, lN n, 0)).2.2.2 = none) (hd : 52 ≤ d) (wt : WTQ z fx s K G B h A W q BA X tt snd lim SP wi o Lf fs) (kk : gss Lf fs tt (2, lN n, 0) = none → ∀ h' l' o', OUT wi W h h' o o' → OPQ z fx G B h' A W q BA X tt snd lim SP wi (maU MA (ens s).length (sce Lf RN fs tt (2, lN n, 0))) l' o' (s.1, s.2.1, ens s ++ [((2, lN n, 0), vew st Lf fs tt (2, lN n, 0), vew st Lf fs tt (2, lN n, 0), false)], (if cb then s.2.2.2.1 + 1 else s.2.2.2.1), gas s) → av G h' l' = av G h l → K (.returned (some (va_rf (if (vew st Lf fs tt (2, lN n, 0)).1 = true then some (MA.1 n) else none)))) h') : MW G d e_X1_module [.ref A, .int (nI n), .int (bI cb)] h K := by
  refine st_X1_module fun XX oo hG hD _ => ?_
  subst hG; subst hD
  have t0 := H.1.1.1
  refine k_X1_module_0 oo (fun _ => ?_) (fun c => absurd ((nI_eq (b := 0) (by omega) (by omega)).mp c) (by omega))
  refine k_X1_module_9 oo ?_
  rw [nI_64 (by omega)]
  refine cask_q (p := (2, lN n, 0)) (cb := cb) H wd ⟨by show 2 < 16; omega, by show 0 < _; omega⟩ (fun _ => hn2) (by omega) (fun v hv' => by rw [hv] at hv'; cases hv') (by omega) (fun a b c d h' l' o' s' MA' u H2 e e1 e2 => wt a b c d h' l' o' s' MA' u H2 e e1 e2) (fun i hi => by rw [hfi] at hi; cases hi) (fun _ c => by
    rw [Bool.and_eq_true, beq_iff_eq] at c
    omega) (fun _ _ hg h1 l1 o1 u1 H1 av1 => ?_)
  have cz : csz (vew st Lf fs tt (2, lN n, 0)) = 0 := by unfold csz; rw [hv]
  rw [cz, Nat.add_zero] at av1
  have kk := kk hg h1 l1 o1 u1 H1 av1
  have en := H1.2.2.1.2.2.2.2.1 (ens s).length ((2, lN n, 0), vew st Lf fs tt (2, lN n, 0), vew st Lf fs tt (2, lN n, 0), false) (by show (ens s ++ [_])[(ens s).length]? = _; simp)
  have tE := (H1.2.2.1.1.1.2.2.2 (ens s).length (by omega)).2
  obtain ⟨-, ⟨b1, -⟩, -, ⟨-, -, b3⟩, -⟩ := en
  cases hth : (vew st Lf fs tt (2, lN n, 0)).1 with
  | true =>
    rw [hth, if_pos rfl] at kk
    have b1 : h1.I 1155 (Ea W (ens s).length) = bI (vew st Lf fs tt (2, lN n, 0)).1 := b1
    rw [hth] at b1
    have b3 : h1.R 1158 (Ea W (ens s).length) = some (MA.1 (un (lN n))) := b3 rfl hth
    rw [un_l (by omega)] at b3
    refine k_X1_module_18 (r2 := b1) oo (fun c => absurd c (by decide)) (fun _ => ?_)
    refine k_X1_module_26 (r2 := b3) oo ?_
    exact k_X1_module_34 oo kk
  | false =>
    rw [hth, if_neg (by decide)] at kk
    have b1 : h1.I 1155 (Ea W (ens s).length) = bI (vew st Lf fs tt (2, lN n, 0)).1 := b1
    rw [hth] at b1
    refine k_X1_module_18 (r2 := b1) oo (fun _ => ?_) (fun c => absurd rfl c)
    refine k_X1_module_33 oo ?_
    exact k_X1_module_34 oo kk
end
