/-! entries change; what is owed where places are asked for -/
def plc (s : Ms) : List Pc := (ens s).map fun x => x.1
def PE1 (W e g a : Nat) : Prop := enE.contains g = true ∧ a = Ea W e
def PE2 (W e g a : Nat) : Prop := VQ g a ∨ PE1 W e g a
theorem PE1.pv {W e : Nat} : ∀ g a, PE1 W e g a → PEV W e g a := fun g a z => Or.inr (Or.inl (Or.inr z))
theorem PE2.pv {W e : Nat} : ∀ g a, PE2 W e g a → PEV W e g a := fun g a z => z.elim Or.inl (fun z => PE1.pv g a z)
theorem PE1.vq {W e : Nat} : ∀ g a, VQ g a → ¬ PE1 W e g a := fun g a z z2 => PE0.vq g a z (Or.inr z2)
/-- from where a place comes, if it is not guessed -/
def sco (Lf : Nat → Lw) (RN : Nat → Int32) (fs tt : Nat) (p : Pc) : Option (Int32 × Int32) := match gss Lf fs tt p with
  | none => some (sce Lf RN fs tt p)
  | some _ => none
theorem sco_n {Lf : Nat → Lw} {RN : Nat → Int32} {fs tt : Nat} {p : Pc} (h : gss Lf fs tt p = none) : sco Lf RN fs tt p = some (sce Lf RN fs tt p) := by unfold sco; rw [h]
/-- modules stay; new entries came from where they came -/
def MAX (n : Nat) (MA MA' : Ma) (ps : List Pc) (sc : Pc → Option (Int32 × Int32)) : Prop := (MA'.1 = MA.1 ∧ MA'.2.1 = MA.2.1) ∧ (∀ e, e < n → MA'.2.2.2 e = MA.2.2.2 e) ∧ ∀ (e : Nat) (p : Pc), n ≤ e → ps[e]? = some p → some (MA'.2.2.2 e) = sc p
theorem MAX.refl {n : Nat} {MA : Ma} {ps : List Pc} {sc : Pc → Option (Int32 × Int32)} (h : ps.length ≤ n) : MAX n MA MA ps sc := ⟨⟨rfl, rfl⟩, fun _ _ => rfl, fun e p he hp => by
  have := get_lt hp
  omega⟩
def rzP (P : Ms → Prop) (r : Rz) : Prop := match r with
  | none => True
  | some (.ok s) => P s
  | some (.error e) => P e.2.2
def RZM (K : Outcome → AH → Prop) (G : Gt) (B : Nat) (h : AH) (A W q BA X tt : Nat) (snd : Int64) (lim SP wi : Nat) (MA : Ma) (o : Lc) (n : Nat) (sc : Pc → Option (Int32 × Int32)) (r : Rz) : Prop := match r with
  | none => True
  | some (.ok s') => ∀ h' l' o' MA', OUT wi W h h' o o' → OPR G B h' A W q BA X tt snd lim SP wi MA' l' o' s' → MAX n MA MA' (plc s') sc → MA'.2.2.1 = MA.2.2.1 → K (.returned none) h'
  | some (.error e) => ∀ h' l' o' MA', OUT wi W h h' o o' → OPR G B h' A W q BA X tt snd lim SP wi MA' l' o' e.2.2 → MAX n MA MA' (plc e.2.2) sc → h'.I 24 A = nI e.1 → h'.J 25 A = e.2.1 → K (.threw SP) h'
section
variable {G : Gt} {B d : Nat} {h : AH} {l : List Nat} {o : Lc} {wi W A q BA X tt lim SP t : Nat} {snd : Int64} {MA : Ma} {s : Ms} {K : Outcome → AH → Prop} {fs : Nat} {st : Lw} {Lf : Nat → Lw} {RN : Nat → Int32}
theorem RZM.rz {h1 : AH} {o1 : Lc} {MA1 : Ma} {n : Nat} {ps : List Pc} {sc : Pc → Option (Int32 × Int32)} {r : Rz} (u : OUT wi W h h1 o o1) (mx : MAX n MA MA1 ps sc) (m3 : MA1.2.2.1 = MA.2.2.1) (pl : rzP (fun s2 => plc s2 = ps) r) (k : RZM K G B h A W q BA X tt snd lim SP wi MA o n sc r) : RZ K G B h1 A W q BA X tt snd lim SP wi MA1 o1 r := by
  cases r with
  | none => trivial
  | some e =>
    cases e with
    | ok s' => exact fun h' l' o' u2 H => k h' l' o' MA1 (u.trans u2) H (by rw [show plc s' = ps from pl]; exact mx) m3
    | error e => exact fun h' l' o' u2 H => k h' l' o' MA1 (u.trans u2) H (by rw [show plc e.2.2 = ps from pl]; exact mx)
theorem cask_m {p : Pc} {cb : Bool} {env : Pc → Cn} {k : Nat → Ms → Rz} (H : OPR G B h A W q BA X tt snd lim SP wi MA l o s) (wd : WRD h o A W BA tt MA fs st Lf RN) (hp : PB p) (henv : gss Lf fs tt p = none → env p = vew st Lf fs tt p) (hn2 : (ens s).length < 26) (hak : s.2.2.2.1 ≤ 24) (hv : ∀ v, (vew st Lf fs tt p).2.2.2 = some v → vsz v ≤ 64 ∧ fdp v.2.2 ≤ 40) (hav : lim + 72 ≤ av G h l + gas s) (hd : 50 ≤ d) (wt : WTS K G B h A W q BA X tt snd lim SP wi o Lf fs s) (kk : ∀ e s1 MA1 h1 l1 o1 x, OUT wi W h h1 o o1 → OPR G B h1 A W q BA X tt snd lim SP wi MA1 l1 o1 s1 → mask env cb p s k = k e s1 → (ens s1)[e]? = some x → (x ∈ ens s ∨ (gss Lf fs tt p = none ∧ x = (p, vew st Lf fs tt p, vew st Lf fs tt p, false))) → x.1 = p → (s1.1 = s.1 ∧ s1.2.1 = s.2.1 ∧ gas s1 = gas s ∧ (ens s).length ≤ (ens s1).length) → lim + 8 ≤ av G h1 l1 + gas s1 → MAX (ens s).length MA MA1 (plc s1) (sco Lf RN fs tt) → MA1.2.2.1 = MA.2.2.1 → K (.returned (some (.ref (Ea W e)))) h1) (ke : mask env cb p s k = mst 2 4 s → RZ K G B h A W q BA X tt snd lim SP wi MA o (mst 2 4 s)) : MW G d e_X1_ask [.ref A, .int (nI p.1), .long p.2.1, .int (nI p.2.2), .int (bI cb)] h K := by
  have hg := H.2.2.2.2.1
  refine cask_ok H wd hp (fun _ => hn2) hak (fun v hv' => ⟨by have := (hv v hv').1; omega, (hv v hv').2⟩) hd wt (fun i hi => ?_) (fun h1 h2 => ?_) (fun h1 h2 h3 h' l' o' u H2 a2 => ?_)
  · have hi2 := hi
    rw [List.findIdx?_eq_some_iff_getElem] at hi2
    obtain ⟨i1, i2, -⟩ := hi2
    refine kk i s MA h l o _ OUT.refl H (by unfold mask; rw [hi]) (List.getElem?_eq_getElem i1) (Or.inl (List.getElem_mem i1)) (by simpa using i2) ⟨rfl, rfl, rfl, Nat.le_refl _⟩ (by omega) (MAX.refl (by unfold plc; rw [List.length_map]; exact Nat.le_refl _)) rfl
  · refine ke ?_
    unfold mask
    rw [h1]
    exact if_pos h2
  · refine kk (ens s).length _ _ h' l' o' (p, vew st Lf fs tt p, vew st Lf fs tt p, false) u H2 ?_ ?_ (Or.inr ⟨h3, rfl⟩) rfl ⟨rfl, rfl, rfl, by show (ens s).length ≤ (ens s ++ [_]).length; simp⟩ ?_ ⟨⟨rfl, rfl⟩, fun e he => if_neg (by omega), fun e y he hy => ?_⟩ rfl
    · unfold mask
      rw [h1]
      show (if (cb && s.2.2.2.1 == 24) = true then _ else _) = _
      rw [if_neg (by rw [h2]; decide), henv h3]
    · show (ens s ++ [_])[(ens s).length]? = _
      simp
    · have : csz (vew st Lf fs tt p) ≤ 64 := by
        unfold csz
        split
        · exact (hv _ (by assumption)).1
        · omega
      show lim + 8 ≤ av G h' l' + gas s
      omega
    · have e1 : e = (ens s).length := by
        have := get_lt hy
        change e < ((ens s ++ [_]).map _).length at this
        rw [List.length_map, List.length_append] at this
        simp at this
        omega
      subst e1
      change ((ens s ++ [_]).map _)[(ens s).length]? = some y at hy
      simp at hy
      show some (if (ens s).length = (ens s).length then sce Lf RN fs tt p else _) = _
      rw [if_pos rfl, ← hy, sco_n h3]
theorem WkQ.enc {z : Nat} {h' : AH} {o' : Lc} {e : Nat} {x x' : En} (w : WkQ z h o wi W MA s) (hx : (ens s)[e]? = some x) (f : Fr (PE2 W e) h h') (ho : ∀ p, p ≠ (3, wi, e, 0) → o' p = o p) (tg : ∀ (p : Sl) y, p.1 = 1 ∨ p.1 = 2 → o p = some y → h'.R 3718 y.1 = h.R 3718 y.1) (hr : ∀ j, j < s.1 → ∀ r ∈ rfF (s.2.1 j), ∀ a, rad o wi r = some a → rad o' wi r = some a) (nw : EnR1 h' o' wi W e MA x') : WkQ z h' o' wi W MA (sE s ((ens s).set e x')) := by
  obtain ⟨⟨w1, w2, w3, w4, w5, w6⟩, w7, w8, ⟨w9, w10⟩, w11, w12⟩ := w
  have fv := f.mono PE2.pv
  have el := get_lt hx
  have np := PEV.no (W := W) (n := e) (l := swF ++ fmF ++ [2438, 2439]) rfl
  have sub : ∀ l' : List Nat, l'.all (fun f => (swF ++ fmF ++ [2438, 2439]).contains f) = true → ∀ f a, l'.contains f = true → ¬ PEV W e f a := fun l' hl f a hf => np f a (by rw [List.all_eq_true] at hl; exact hl f (List.contains_iff_mem.mp hf))
  have o12 : ∀ c i j, c = 1 ∨ c = 2 → o' (c, wi, i, j) = o (c, wi, i, j) := fun c i j hc => ho _ (fun e => by
    have : c = 3 := congrArg Prod.fst e
    omega)
  have n2 : ∀ g a, g = 1025 ∨ g = 2441 → ¬ PE2 W e g a := fun g a hg z => by
    rcases hg with hg | hg <;> subst hg
    · rcases z with z | z
      · exact VQ.no (l := [1025]) rfl _ _ rfl z
      · exact absurd z.1 (by decide)
    · rcases z with z | z
      · exact VQ.no (l := [2441]) rfl _ _ rfl z
      · exact absurd z.1 (by decide)
  refine ⟨⟨w1.fr fv (sub swF rfl), by rw [fv.I (np _ _ rfl)]; exact w2, w3, w4, by rw [fv.I (np _ _ rfl)]; exact w5, by rw [f.I (n2 _ _ (Or.inr rfl))]; exact w6⟩, fun j hj => (w7 j hj).keep fv (fun g a hg _ _ => sub fmF rfl g a hg) (fun c i hc => o12 c j i hc) (fun c i y hc hy => tg _ y hc hy) (fun r hr' a ha => hr j hj r hr' a ha), fun j hj i => ?_, ⟨?_, ?_⟩, fun e2 y hy => ?_, fun e2 b he => ?_⟩
  · rw [o12 1 j i (Or.inl rfl), o12 2 j i (Or.inr rfl)]; exact w8 j hj i
  · show h'.I 1025 (W + 2) = nI ((ens s).set e x').length
    rw [f.I (n2 _ _ (Or.inl rfl)), List.length_set]; exact w9
  · show ((ens s).set e x').length ≤ 26
    rw [List.length_set]; exact w10
  · change ((ens s).set e x')[e2]? = some y at hy
    by_cases c : e2 = e
    · subst c
      rw [List.getElem?_set_self el] at hy
      rw [← Option.some.inj hy]; exact nw
    · rw [List.getElem?_set_ne (fun z => c z.symm)] at hy
      refine (w11 e2 y hy).fr f (fun g hg z => ?_) (ho _ (fun q => c (congrArg (fun p : Sl => p.2.2.1) q))) rfl rfl
      rcases z with z | z
      · exact VQ.no (l := enE) rfl g _ hg z
      · have := z.2
        unfold Ea at this; omega
  · change ((ens s).set e x').length ≤ e2 ∨ b ≠ 0 at he
    rw [List.length_set] at he
    rw [ho _ (fun q => by
      have z1 : e2 = e := congrArg (fun p : Sl => p.2.2.1) q
      have z2 : b = 0 := congrArg (fun p : Sl => p.2.2.2) q
      omega)]
    exact w12 e2 b he
theorem WkR.enc {h' : AH} {o' : Lc} {e : Nat} {x x' : En} (w : WkR h o wi W MA s) (hx : (ens s)[e]? = some x) (f : Fr (PE2 W e) h h') (ho : ∀ p, p ≠ (3, wi, e, 0) → o' p = o p) (tg : ∀ (p : Sl) y, p.1 = 1 ∨ p.1 = 2 → o p = some y → h'.R 3718 y.1 = h.R 3718 y.1) (hr : ∀ j, j < s.1 → ∀ r ∈ rfF (s.2.1 j), ∀ a, rad o wi r = some a → rad o' wi r = some a) (nw : EnR1 h' o' wi W e MA x') : WkR h' o' wi W MA (sE s ((ens s).set e x')) := WkQ.enc w hx f ho tg hr nw
theorem PE2.ip {e : Nat} (he : e < 30) : ∀ g a, PE2 W e g a → IP W g a := fun g a z => PEV.ip he g a (PE2.pv g a z)
/-- an entry changes, values stay or move among the worker's slots -/
theorem OPR.enc {h' : AH} {l' : List Nat} {o' : Lc} {e sl : Nat} {x x' : En} (H : OPR G B h A W q BA X tt snd lim SP wi MA l o s) (hx : (ens s)[e]? = some x) (f : Fr (PE2 W e) h h') (v' : VH G B h' q l' o') (ho : ∀ p, p ≠ (3, wi, e, 0) → p ≠ (5, wi, sl, 1) → o' p = o p) (tg : TG o [] h h') (hr : ∀ j, j < s.1 → ∀ r ∈ rfF (s.2.1 j), ∀ a, rad o wi r = some a → rad o' wi r = some a) (nw : EnR1 h' o' wi W e MA x') : OUW [(5, wi, sl, 1)] wi W h h' o o' ∧ OPR G B h' A W q BA X tt snd lim SP wi MA l' o' (sE s ((ens s).set e x')) := by
  obtain ⟨c, v, w, hf, hg, hw⟩ := H
  have el := get_lt hx
  have e26 := w.2.2.2.1.2
  have fi := f.mono (PE2.ip (W := W) (e := e) (by omega))
  have fv := f.mono PE2.pv
  refine ⟨⟨fi, fun r hr hn => ?_⟩, c.ip fi, v', (w.tmp (sl := sl) (y := o' (5, wi, sl, 1))).enc hx f (fun p hp => ?_) (fun p y hp hy => ?_) (fun j hj r hr' a ha => ?_) nw, ?_, hg, hw.fr fv (fun a => PEV.no (l := [27]) rfl _ a rfl) (fun a => PEV.no (l := [2306]) rfl _ a rfl)⟩
  · exact ⟨ho r (OUT.ne hr (by omega)) (by simpa using hn), fun x hx => tg r x (by simp) hx⟩
  · by_cases c : p = (5, wi, sl, 1)
    · rw [c, uO_s]
    · rw [uO_n c]; exact ho p hp c
  · rw [uO_n (fun c => by rw [c] at hp; exact absurd hp (show ¬ ((5 : Nat) = 1 ∨ (5 : Nat) = 2) by omega))] at hy
    exact tg p y (by simp) hy
  · refine hr j hj r hr' a ?_
    rw [← ha, rad_u rsl_3]
  · show h'.R 28 A = some (Fa W (s.1 - 1))
    rw [fv.R (PEV.no (l := [28]) rfl _ A rfl)]; exact hf
theorem OPR.enc0 {h' : AH} {l' : List Nat} {o' : Lc} {e : Nat} {x x' : En} (H : OPR G B h A W q BA X tt snd lim SP wi MA l o s) (hx : (ens s)[e]? = some x) (f : Fr (PE2 W e) h h') (v' : VH G B h' q l' o') (ho : ∀ p, p ≠ (3, wi, e, 0) → o' p = o p) (tg : TG o [] h h') (hr : ∀ j, j < s.1 → ∀ r ∈ rfF (s.2.1 j), ∀ a, rad o wi r = some a → rad o' wi r = some a) (nw : EnR1 h' o' wi W e MA x') : OUT wi W h h' o o' ∧ OPR G B h' A W q BA X tt snd lim SP wi MA l' o' (sE s ((ens s).set e x')) := by
  obtain ⟨u, H'⟩ := H.enc (sl := 0) hx f v' (fun p n1 _ => ho p n1) tg hr nw
  exact ⟨⟨u.1, fun p hp => ⟨ho p (OUT.ne hp (by omega)), fun x hx => tg p x (by simp) hx⟩⟩, H'⟩
end
