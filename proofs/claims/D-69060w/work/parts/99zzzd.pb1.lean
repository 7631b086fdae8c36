/-! a publication: what is owed, and small steps -/
/-- an entry's content changes -/
def upE (p : Pc) (f : Cn → Cn) (es : List En) : List En := es.map fun x => if x.1 = p then cEn (f x.2.2.1) true x else x
theorem upE_p {p : Pc} {f : Cn → Cn} {es : List En} : (upE p f es).map (fun x => x.1) = es.map fun x => x.1 := by
  unfold upE
  rw [List.map_map]
  refine List.map_congr_left fun x _ => ?_
  show (if x.1 = p then cEn (f x.2.2.1) true x else x).1 = x.1
  split <;> rfl
theorem upE_set {p : Pc} {f : Cn → Cn} {es : List En} {e : Nat} {x : En} (nd : (es.map fun x => x.1).Nodup) (hx : es[e]? = some x) (hp : x.1 = p) : es.set e (cEn (f x.2.2.1) true x) = upE p f es := by
  refine List.ext_getElem? fun i => ?_
  unfold upE
  rw [List.getElem?_map]
  by_cases c : e = i
  · subst c
    rw [List.getElem?_set_self (get_lt hx), hx]
    show some _ = some (if x.1 = p then _ else _)
    rw [if_pos hp]
  · rw [List.getElem?_set_ne c]
    cases hi : es[i]? with
    | none => rfl
    | some z =>
      show some z = some (if z.1 = p then _ else _)
      rw [if_neg fun hz => ?_]
      have h1 : (es.map fun x => x.1)[e]? = some p := by rw [List.getElem?_map, hx, ← hp]; rfl
      have h2 : (es.map fun x => x.1)[i]? = some p := by rw [List.getElem?_map, hi, ← hz]; rfl
      have l1 := get_lt h1
      exact c ((List.getElem?_inj l1 nd).mp (by rw [h1, h2]))
theorem qsk_pre {env : Pc → Cn} {es : List En} {p : Pc} : es <+: qsk env es p := by
  unfold qsk
  split
  · exact List.prefix_refl _
  · exact List.prefix_append _ _
theorem lkE_pre {env : Pc → Cn} : ∀ {ns : List Nat} {es : List En}, es <+: lkE env ns es
  | [], _ => List.prefix_refl _
  | n :: ns, es => List.IsPrefix.trans (by
      show es <+: las env es n
      unfold las
      split
      · exact List.prefix_refl _
      · exact qsk_pre) (lkE_pre (ns := ns))
theorem preg {es es' : List En} (h : es <+: es') {e : Nat} {x : En} (hx : es[e]? = some x) : es'[e]? = some x := by
  obtain ⟨t, rfl⟩ := h
  rw [List.getElem?_append_left (get_lt hx)]; exact hx
theorem MAX.tr3 {n : Nat} {MA MA1 MA2 : Ma} {es es' : List En} {sc : Pc → Option (Int32 × Int32)} (a : MAX n MA MA1 (es.map fun x => x.1) sc) (b : MAX es.length MA1 MA2 (es'.map fun x => x.1) sc) (hp : es <+: es') (hn : n ≤ es.length) : MAX n MA MA2 (es'.map fun x => x.1) sc := by
  refine a.tr2 (by rw [List.length_map]; exact b) (fun e he => ?_) (by rw [List.length_map]; exact hn)
  obtain ⟨t, rfl⟩ := hp
  rw [List.map_append, List.getElem?_append_left he]
theorem qsk_in {env : Pc → Cn} {es : List En} {p : Pc} {x : En} (hx : x ∈ es) (hp : x.1 = p) : qsk env es p = es := by
  unfold qsk
  cases hf : es.findIdx? (fun e => e.1 == p) with
  | some i => rfl
  | none =>
    rw [List.findIdx?_eq_none_iff] at hf
    have := hf x hx
    rw [hp] at this
    simp at this
/-- what a publication costs -/
def pgas (n : Nat) : Nat := 10 + (n + 15) / 16
def inB (c : Cn) : Cn := (c.1, c.2.1 + 1, c.2.2)
def onT (c : Cn) : Cn := (true, c.2)
/-- a publication, from its beginning to its end -/
def mpb (W : Wd) (cm : Md) (dw : Nat → Nat → Nat) (env : Pc → Cn) (lim n : Nat) (r : Except (Nat × Nat) Md) (es : List En) : TxR :=
  if lim < pgas n then (2, lN 5, es, lim, [], 0)
  else if (8 : Int64) ≤ (env (5, 0, 0)).2.1 then (2, lN 4, qsk env es (5, 0, 0), pgas n, [], 0)
  else match r with
  | .error e => (4, (nI e.1).toInt64, qsk env es (5, 0, 0), pgas n, [], e.2)
  | .ok m =>
    if m.1 = 0 then (4, (nI 21).toInt64, qsk env es (5, 0, 0), pgas n, [], 4)
    else if (env (2, lN m.1, 0)).1 = true then (4, (nI 21).toInt64, qsk env (qsk env es (5, 0, 0)) (2, lN m.1, 0), pgas n, [], 4)
    else match (vlk W cm m).1 with
    | some e => (4, (nI e.1).toInt64, lkE env (vlk W cm m).2 (qsk env (qsk env es (5, 0, 0)) (2, lN m.1, 0)), pgas n, [], e.2)
    | none => (match vla m (mdw m dw) with
      | some e => (4, (nI e.1).toInt64, lkE env (vlk W cm m).2 (qsk env (qsk env es (5, 0, 0)) (2, lN m.1, 0)), pgas n, [], e.2)
      | none =>
        if (256 : Int64) ≤ (env (4, 0, 0)).2.1 then (2, lN 4, qsk env (lkE env (vlk W cm m).2 (qsk env (qsk env es (5, 0, 0)) (2, lN m.1, 0))) (4, 0, 0), pgas n, [], 0)
        else (0, 0, upE (2, lN m.1, 0) onT (upE (5, 0, 0) inB (upE (4, 0, 0) inB (qsk env (lkE env (vlk W cm m).2 (qsk env (qsk env es (5, 0, 0)) (2, lN m.1, 0))) (4, 0, 0)))), pgas n, [], 0))
/-- what a transaction that publishes asks for -/
def TXP (h : AH) (X M n : Nat) (r : Except (Nat × Nat) Md) : Prop := (h.R 2698 X = some M ∧ h.tag M = some (1, 0) ∧ h.I 130 M = nI n ∧ n ≤ 100000) ∧ match r with
  | .error e => (1 ≤ e.1 ∧ e.1 < 2147483648) ∧ h.I 2699 X = nI e.1 ∧ h.I 2700 X = nI e.2
  | .ok _ => h.I 2699 X = nI 0
theorem TXP.fr {P : Nat → Nat → Prop} {h h' : AH} {X M n : Nat} {r : Except (Nat × Nat) Md} (u : Fr P h h') (np : ∀ f a, [2698, 130, 2699, 2700].contains f = true → ¬ P f a) (s : TXP h X M n r) : TXP h' X M n r := by
  obtain ⟨⟨a1, a2, a3, a4⟩, b⟩ := s
  refine ⟨⟨by rw [u.R (np _ _ rfl)]; exact a1, u.tag a2, by rw [u.I (np _ _ rfl)]; exact a3, a4⟩, ?_⟩
  cases r with
  | error e => exact ⟨b.1, by rw [u.I (np _ _ rfl)]; exact b.2.1, by rw [u.I (np _ _ rfl)]; exact b.2.2⟩
  | ok m => show h'.I _ X = _; rw [u.I (np _ _ rfl)]; exact b
theorem vlk_ok {W : Wd} {cm m : Md} (h : (vlk W cm m).1 = none) : ∀ s ∈ m.2.2.1, sok W cm s = true := by
  unfold vlk at h
  cases hf : ffl (sok W cm) m.2.2.1 with
  | some k => rw [hf] at h; cases h
  | none =>
    unfold ffl at hf
    rw [List.findIdx?_eq_none_iff] at hf
    intro s hs
    have := hf s hs
    simpa using this
theorem dz_le {h : AH} {CM DP : Nat} {MA : Ma} {W : Wd} {cm m : Md} {DA : Nat → Nat} {dw : Nat → Nat → Nat} (lc : LKC h CM MA W cm DA dw DP) (ok : ∀ s ∈ m.2.2.1, sok W cm s = true) (i : Nat) : dz m (fdn m dw) i ≤ 24 := by
  unfold dz
  split
  · omega
  · unfold fdn
    split
    · rename_i s hs
      have sm := List.mem_of_getElem? hs
      have := ok s sm
      unfold sok at this
      split at this
      · cases this
      · rename_i m' hm'
        split at this
        · rename_i s' hs'
          exact (lc _ _ hm').2.2.2.1 _ (get_lt hs')
        · cases this
    · omega
section
variable {G : Gt} {B d : Nat} {h : AH} {l : List Nat} {o : Lc} {wi W A q BA X tt lim SP t : Nat} {snd : Int64} {MA : Ma} {s : Ms} {K : Outcome → AH → Prop} {fs z : Nat} {fx : Option Nat} {st : Lw} {Lf : Nat → Lw} {RN : Nat → Int32}
/-- a place, asked for by a publication -/
theorem cask_p {p : Pc} {ak g : Nat} {F : Nat → Fm} {es : List En} (H : OPQ 0 fx G B h A W q BA X tt snd lim SP wi MA l o (0, F, es, ak, g)) (wd : WRD h o A W BA tt MA fs st Lf RN) (hp : PB p) (hn2 : es.length < 26) (hak : ak ≤ 24) (hv : (vew st Lf fs tt p).2.2.2 = none) (hg : ∀ p, gss Lf fs tt p = none) (hd : 50 ≤ d) (kk : ∀ e x h' l' o' MA', OUT wi W h h' o o' → OPQ 0 fx G B h' A W q BA X tt snd lim SP wi MA' l' o' (0, F, qsk (vew st Lf fs tt) es p, ak, g) → MAX es.length MA MA' ((qsk (vew st Lf fs tt) es p).map fun x => x.1) (sco Lf RN fs tt) → (qsk (vew st Lf fs tt) es p)[e]? = some x → x.1 = p → K (.returned (some (.ref (Ea W e)))) h') : MW G d e_X1_ask [.ref A, .int (nI p.1), .long p.2.1, .int (nI p.2.2), .int (nI 0)] h K := by
  refine cask_q (p := p) (cb := false) H wd hp (fun _ => hn2) hak (fun v hv' => by rw [hv] at hv'; cases hv') hd (fun k p hp hg' h' l' o' s' MA' u H2 e e1 e2 => ?_) (fun i hi => ?_) (fun _ c => by cases c) (fun hf _ _ h1 l1 o1 u1 H1 av1 => ?_)
  · rw [hg p] at hg'; cases hg'
  · have hi : es.findIdx? (fun x => x.1 == p) = some i := hi
    have eq : qsk (vew st Lf fs tt) es p = es := by unfold qsk; rw [hi]
    have hi2 := hi
    rw [List.findIdx?_eq_some_iff_getElem] at hi2
    obtain ⟨i1, i2, -⟩ := hi2
    have i2 : es[i].1 = p := by simpa using i2
    exact kk i es[i] h l o MA OUT.refl (by rw [eq]; exact H) (by rw [eq]; exact MAX.refl (by rw [List.length_map]; exact Nat.le_refl _)) (by rw [eq]; exact List.getElem?_eq_getElem i1) i2
  · have hf : es.findIdx? (fun x => x.1 == p) = none := hf
    have eq : qsk (vew st Lf fs tt) es p = es ++ [(p, vew st Lf fs tt p, vew st Lf fs tt p, false)] := by unfold qsk; rw [hf]
    have H1 : OPQ 0 fx G B h1 A W q BA X tt snd lim SP wi (maU MA es.length (sce Lf RN fs tt p)) l1 o1 (0, F, qsk (vew st Lf fs tt) es p, ak, g) := by rw [eq]; exact H1
    refine kk es.length (p, vew st Lf fs tt p, vew st Lf fs tt p, false) h1 l1 o1 _ u1 H1 ⟨⟨rfl, rfl⟩, fun e he => if_neg (by omega), fun e p' he hp' => ?_⟩ (by rw [eq]; simp) rfl
    have hl := get_lt hp'
    rw [eq, List.length_map, List.length_append] at hl
    have e1 : e = es.length := by simp at hl; omega
    subst e1
    rw [eq, List.map_append, List.getElem?_append_right (by rw [List.length_map]; exact Nat.le_refl _), List.length_map, Nat.sub_self] at hp'
    have hp' : p = p' := Option.some.inj hp'
    rw [← hp', sco_n (hg _)]
    simp [maU, ens]
/-- a worker's gas is written -/
theorem OPQ.gs {g : Nat} {h' : AH} (H : OPQ z fx G B h A W q BA X tt snd lim SP wi MA l o s) (f : Fq (P1 2439 W) h h') (e : h'.I 2439 W = nI g) (hgl : g ≤ lim) : OUT wi W h h' o o ∧ OPQ z fx G B h' A W q BA X tt snd lim SP wi MA l o (s.1, s.2.1, ens s, s.2.2.2.1, g) := by
  obtain ⟨c, v, ⟨⟨w1, w2, w3, w4, w5, w6⟩, w7, w8, w9⟩, hf, hg, hw⟩ := H
  have fi : Fr (IP W) h h' := f.1.mono fun g a z => by
    obtain ⟨z1, z2⟩ := z
    exact Or.inr (Or.inl ⟨by rw [z1]; decide, by omega, by omega⟩)
  obtain ⟨v1, tg⟩ := v.oth f (fun g a z z2 => by
    rw [z2.1] at z
    rcases z with z | z
    · exact absurd z (by decide)
    · exact absurd z (by decide))
  have np : ∀ g a, g ≠ 2439 → ¬ P1 2439 W g a := fun g a h1 z => h1 z.1
  have sub : ∀ l' : List Nat, l'.all (fun f => !(f == 2439)) = true → ∀ f a, l'.contains f = true → ¬ P1 2439 W f a := fun l' hl f a hf => np f a (fun e => by
    rw [List.all_eq_true] at hl
    have := hl f (List.contains_iff_mem.mp hf)
    rw [e] at this; simp at this)
  have w' : WkQ z h' o wi W MA (s.1, s.2.1, ens s, s.2.2.2.1, g) := ⟨⟨w1.fr f.1 (sub swF rfl), by rw [f.1.I (np _ _ (by decide))]; exact w2, w3, w4, e, by rw [f.1.I (np _ _ (by decide))]; exact w6⟩, fun j hj => (w7 j hj).keep f.1 (fun g a hg _ _ => sub fmF rfl g a hg) (fun _ _ _ => rfl) (fun c i x _ hx => f.1.R (np _ _ (by decide))) (fun r _ a ha => ha), w8, w9.keep f.1 (fun g a hg _ _ => sub enF rfl g a hg) (fun _ _ => rfl)⟩
  exact ⟨OUT.mk0 fi tg, ⟨c.ip fi, v1, w', by rw [f.1.R (np _ _ (by decide))]; exact hf, hgl, hw.fr f.1 (fun _ => np _ _ (by decide)) (fun _ => np _ _ (by decide))⟩⟩
def PEm (W e g a : Nat) : Prop := (g = 1155 ∨ g = 1158 ∨ g = 1163) ∧ a = Ea W e
theorem PEm.e {W e : Nat} : ∀ g a, PEm W e g a → PE1 W e g a := fun g a z => ⟨by rcases z.1 with q | q | q <;> (rw [q]; rfl), z.2⟩
/-- a module comes into an entry -/
theorem OPQ.mdw {h' : AH} {e : Nat} {x : En} (H : OPQ z fx G B h A W q BA X tt snd lim SP wi MA l o s) (hx : (ens s)[e]? = some x) (f : Fq (PEm W e) h h') (e1 : h'.I 1155 (Ea W e) = bI true) (e2 : h'.R 1158 (Ea W e) = some (MA.1 (un x.1.2.1))) (e3 : h'.I 1163 (Ea W e) = nI 1) : OUT wi W h h' o o ∧ OPQ z fx G B h' A W q BA X tt snd lim SP wi MA l o (sEn s e (cEn (onT x.2.2.1) true)) := by
  obtain ⟨⟨⟨a1, a2, a3, a4⟩, ⟨b1, b2, b3⟩, ⟨g1, g2⟩, ⟨c1, c2, c3⟩, d1⟩, -, e26⟩ := H.en hx
  have f1 := f.mono PEm.e
  obtain ⟨v1, tg1⟩ := H.2.1.oth f1 PE1.vq
  have np : ∀ g, g ≠ 1155 → g ≠ 1158 → g ≠ 1163 → ∀ a, ¬ PEm W e g a := fun g n1 n2 n3 a z => by
    rcases z.1 with q | q | q
    · exact n1 q
    · exact n2 q
    · exact n3 q
  have nw : EnR1 h' o wi W e MA (cEn (onT x.2.2.1) true x) := by
    refine ⟨⟨by rw [f.1.I (np _ (by decide) (by decide) (by decide) _)]; exact a1, by rw [f.1.J (np _ (by decide) (by decide) (by decide) _)]; exact a2, by rw [f.1.I (np _ (by decide) (by decide) (by decide) _)]; exact a3, a4⟩, ⟨e1, by rw [f.1.J (np _ (by decide) (by decide) (by decide) _)]; exact b2, by rw [f.1.J (np _ (by decide) (by decide) (by decide) _)]; exact b3⟩, ⟨by rw [f.1.I (np _ (by decide) (by decide) (by decide) _)]; exact g1, by rw [e3]; simp [cEn]; rfl⟩, ⟨by rw [f.1.I (np _ (by decide) (by decide) (by decide) _)]; exact c1, by rw [f.1.I (np _ (by decide) (by decide) (by decide) _)]; exact c2, fun _ _ => e2⟩, ?_⟩
    rw [f.1.R (np _ (by decide) (by decide) (by decide) _)]
    exact d1
  have fi := (f1.1.mono fun g a z => Or.inr z).mono (PE2.ip (W := W) (e := e) (by omega))
  have w1 := H.2.2.1.enc hx (f1.1.mono fun g a z => Or.inr z) (fun _ _ => rfl) (fun p y _ hy => tg1 p y (by simp) hy) (fun _ _ _ _ _ ha => ha) nw
  refine ⟨OUT.mk0 fi tg1, ?_⟩
  rw [sEn_at hx]
  refine ⟨H.1.ip fi, v1, w1, ?_, H.2.2.2.2.1, ?_⟩
  · rw [f.1.R (np _ (by decide) (by decide) (by decide) _)]; exact H.2.2.2.1
  · exact H.2.2.2.2.2.fr f.1 (fun _ => np _ (by decide) (by decide) (by decide) _) (fun _ => np _ (by decide) (by decide) (by decide) _)
end
