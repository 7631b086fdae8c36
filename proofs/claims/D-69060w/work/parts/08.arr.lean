def ecl (e : Nat) : Nat := ([0, 0, 0, 0, 6, 7, 9, 21, 1, 19, 20, 29, 28] : List Nat).getD e 0
theorem ecl_ok {e : Nat} (h1 : 4 ≤ e) (h2 : e < 13) : ∃ r, cl_[ecl e]? = some r ∧ ety e = .object r.1 ∧ ecl e < 64 := by
  have : e = 4 ∨ e = 5 ∨ e = 6 ∨ e = 7 ∨ e = 8 ∨ e = 9 ∨ e = 10 ∨ e = 11 ∨ e = 12 := by omega
  rcases this with q | q | q | q | q | q | q | q | q <;> subst q <;> exact ⟨_, rfl, rfl, by decide⟩
theorem tys_at {G : Gt} {e : Nat} (h : e < 13) : (tys_ G)[e]? = some (G.ca e, ety e) := by
  unfold tys_
  rw [List.getElem?_map, List.getElem?_range h]; rfl
theorem arr_is {G : Gt} {U : State} (hK : KW G U) {e : Nat} (h : e < 13) (n : Nat) (z : Nat → Value) : U.isArrayOf (arrV (G.ca e) n z) (ety e) := (hK.1.2 e _ (tys_at h)).1 n z
theorem HR.arr {G : Gt} {h : AH} {H : Heap} (hH : HR G h H) {a t len : Nat} (ht : h.tag a = some (t, len)) (h64 : 64 ≤ t) : len < 2 ^ 31 ∧ H[a]? = some (arrV (G.ca (t % 16)) len (ev h t a)) := (hH.2.2.2.2.2 a t len ht).2.1 h64
theorem HR.elt {G : Gt} {h h' : AH} {H H' : Heap} (hH : HR G h H) {a t len j : Nat} {v : Value} (ht : h.tag a = some (t, len)) (h64 : 64 ≤ t) (hm : t < 4096) (e1 : H'[a]? = some ((arrV (G.ca (t % 16)) len (ev h t a)).setSlot j v)) (hs : H'.size = H.size) (hq : ∀ q, q ≠ a → H'[q]? = H[q]?)
    (hn : h'.n = h.n) (hz : h'.z = h.z) (htg : h'.tag = h.tag) (ho : ∀ b, b ≠ a → (∀ f, h'.I f b = h.I f b ∧ h'.J f b = h.J f b ∧ h'.R f b = h.R f b) ∧ ∀ t i, h'.EI t b i = h.EI t b i ∧ h'.EJ t b i = h.EJ t b i ∧ h'.ER t b i = h.ER t b i)
    (hev : ∀ i, ev h' t a i = updV (ev h t a) j v i) : HR G h' H' := by
  refine hH.one hn hz htg a (hH.lt ht) ((hH.2.2.2.2.2 a t len ht).2.2 hm) ho hs hq fun t' len' ht' => ?_
  rw [ht] at ht'
  cases ht'
  refine ⟨fun q => by omega, fun _ => ⟨(hH.arr ht h64).1, ?_⟩, (hH.2.2.2.2.2 a t len ht).2.2⟩
  rw [e1, arrV_store]
  congr 2
  funext i
  exact (hev i).symm
theorem ald_core {E : Et} {X : Xt} (o : OK E X) {K : Outcome → AH → Prop} {pc t len a : Nat} {i : Int32} (hd : (t % 16 = 0 ∧ decode E.cc pc = .ok (.iaload, 1)) ∨ ((t % 16 = 1 ∨ t % 16 = 2) ∧ decode E.cc pc = .ok (.baload, 1)) ∨ (t % 16 = 3 ∧ decode E.cc pc = .ok (.laload, 1)) ∨ ((4 ≤ t % 16 ∧ t % 16 < 13) ∧ decode E.cc pc = .ok (.aaload, 1)))
    {L r : List Value} {h : AH} (ht : h.tag a = some (t, len)) (h64 : 64 ≤ t) (hi : vp_in i len) (kk : V X K (pc + 1) L (ev h t a i.toNatClampNeg :: r) h) : V X K pc L (.int i :: .ref a :: r) h := by
  intro H locs cells slots ls h1 h2 h3 h4 h5
  obtain ⟨hlen, hc⟩ := h1.arr ht h64
  have hlt : i.toNatClampNeg < len := Nat.not_le.mp fun q => hi (Or.inr q)
  have hin : ¬ (i < 0 ∨ (arrV (X.G.ca (t % 16)) len (ev h t a)).slots.size ≤ i.toNatClampNeg) := by rw [arrV_size]; exact hi
  have hv : (arrV (X.G.ca (t % 16)) len (ev h t a)).slots[i.toNatClampNeg]? = some (ev h t a i.toNatClampNeg) := arrV_read _ _ hlt
  have hK := o.2.1.2.2.1
  have kk := kk H locs cells slots ls h1 h2 h3 h4 h5
  rcases hd with ⟨e, hd⟩ | ⟨e | e, hd⟩ | ⟨e, hd⟩ | ⟨⟨e, e'⟩, hd⟩
  · have ha := arr_is hK (e := t % 16) (by omega) len (ev h t a)
    have et : ety (t % 16) = .int := by rw [e]; rfl
    rw [et] at ha
    exact W.iald o.1.1 o.1.2.1 hc ha (fun q => by cases q) hin hv rfl rfl hd kk
  · have ha := arr_is hK (e := t % 16) (by omega) len (ev h t a)
    have et : ety (t % 16) = .byte := by rw [e]; rfl
    rw [et] at ha
    exact W.bald o.1.1 o.1.2.1 hc ha (fun q => by cases q) hin hv rfl rfl hd kk
  · have ha := arr_is hK (e := t % 16) (by omega) len (ev h t a)
    have et : ety (t % 16) = .boolean := by rw [e]; rfl
    rw [et] at ha
    exact W.zald o.1.1 o.1.2.1 hc ha (fun q => by cases q) hin hv rfl rfl hd kk
  · have ha := arr_is hK (e := t % 16) (by omega) len (ev h t a)
    have et : ety (t % 16) = .long := by rw [e]; rfl
    rw [et] at ha
    exact W.lald o.1.1 o.1.2.1 hc ha (fun q => by cases q) hin hv rfl rfl hd kk
  · have ha := arr_is hK (e := t % 16) (by omega) len (ev h t a)
    obtain ⟨r0, -, et, -⟩ := ecl_ok e e'
    exact W.aald o.1.1 o.1.2.1 hc ha (by rw [et]; rfl) (fun q => by cases q) hin hv rfl rfl hd kk
theorem ev_i {h : AH} {t a j : Nat} (e : t % 16 < 3) : ev h t a j = .int (h.EI t a j) := if_pos e
theorem ev_l {h : AH} {t a j : Nat} (e : t % 16 = 3) : ev h t a j = .long (h.EJ t a j) := by unfold ev; rw [if_neg (by omega), if_pos e]
theorem ev_r {h : AH} {t a j : Nat} (e : 4 ≤ t % 16) : ev h t a j = va_rf (h.ER t a j) := by unfold ev; rw [if_neg (by omega), if_neg (by omega)]
def w_iald : Sm := fun _ _ _ nx _ _ L st h => match st with
  | .int i :: .ref a :: r => match h.tag a with
    | some (t, len) => ((64 ≤ t ∧ t % 16 = 0) ∧ vp_in i len) ∧ nx L (.int (h.EI t a i.toNatClampNeg) :: r) h
    | none => False
  | _ => False
def w_bald : Sm := fun _ _ _ nx _ _ L st h => match st with
  | .int i :: .ref a :: r => match h.tag a with
    | some (t, len) => ((64 ≤ t ∧ (t % 16 = 1 ∨ t % 16 = 2)) ∧ vp_in i len) ∧ nx L (.int (h.EI t a i.toNatClampNeg) :: r) h
    | none => False
  | _ => False
def w_lald : Sm := fun _ _ _ nx _ _ L st h => match st with
  | .int i :: .ref a :: r => match h.tag a with
    | some (t, len) => ((64 ≤ t ∧ t % 16 = 3) ∧ vp_in i len) ∧ nx L (.long (h.EJ t a i.toNatClampNeg) :: r) h
    | none => False
  | _ => False
def w_aald : Sm := fun _ _ _ nx _ _ L st h => match st with
  | .int i :: .ref a :: r => match h.tag a with
    | some (t, len) => ((64 ≤ t ∧ 4 ≤ t % 16 ∧ t % 16 < 13) ∧ vp_in i len) ∧ nx L (va_rf (h.ER t a i.toNatClampNeg) :: r) h
    | none => False
  | _ => False
theorem s_iald {E : Et} {pc : Nat} (hd : decode E.cc pc = .ok (.iaload, 1)) : Snd E pc w_iald (pc + 1) := by
  intro X o nx jp K k1 k2 L st h hw
  unfold w_iald at hw
  split at hw
  · split at hw
    · next t len ht =>
      exact ald_core o (Or.inl ⟨hw.1.1.2, hd⟩) ht hw.1.1.1 hw.1.2 (by rw [ev_i (by omega)]; exact k1 _ _ _ hw.2)
    · exact hw.elim
  · exact hw.elim
theorem s_bald {E : Et} {pc : Nat} (hd : decode E.cc pc = .ok (.baload, 1)) : Snd E pc w_bald (pc + 1) := by
  intro X o nx jp K k1 k2 L st h hw
  unfold w_bald at hw
  split at hw
  · split at hw
    · next t len ht =>
      exact ald_core o (Or.inr (Or.inl ⟨hw.1.1.2, hd⟩)) ht hw.1.1.1 hw.1.2 (by rw [ev_i (by omega)]; exact k1 _ _ _ hw.2)
    · exact hw.elim
  · exact hw.elim
theorem s_lald {E : Et} {pc : Nat} (hd : decode E.cc pc = .ok (.laload, 1)) : Snd E pc w_lald (pc + 1) := by
  intro X o nx jp K k1 k2 L st h hw
  unfold w_lald at hw
  split at hw
  · split at hw
    · next t len ht =>
      exact ald_core o (Or.inr (Or.inr (Or.inl ⟨hw.1.1.2, hd⟩))) ht hw.1.1.1 hw.1.2 (by rw [ev_l (by omega)]; exact k1 _ _ _ hw.2)
    · exact hw.elim
  · exact hw.elim
theorem s_aald {E : Et} {pc : Nat} (hd : decode E.cc pc = .ok (.aaload, 1)) : Snd E pc w_aald (pc + 1) := by
  intro X o nx jp K k1 k2 L st h hw
  unfold w_aald at hw
  split at hw
  · split at hw
    · next t len ht =>
      exact ald_core o (Or.inr (Or.inr (Or.inr ⟨hw.1.1.2, hd⟩))) ht hw.1.1.1 hw.1.2 (by rw [ev_r (by omega)]; exact k1 _ _ _ hw.2)
    · exact hw.elim
  · exact hw.elim
/-! stores into arrays -/
theorem oth_sEI {h : AH} {t a j b : Nat} {v : Int32} (hb : b ≠ a) : (∀ g, (h.sEI t a j v).I g b = h.I g b ∧ (h.sEI t a j v).J g b = h.J g b ∧ (h.sEI t a j v).R g b = h.R g b) ∧ ∀ t' i, (h.sEI t a j v).EI t' b i = h.EI t' b i ∧ (h.sEI t a j v).EJ t' b i = h.EJ t' b i ∧ (h.sEI t a j v).ER t' b i = h.ER t' b i :=
  ⟨fun _ => ⟨rfl, rfl, rfl⟩, fun _ _ => ⟨if_neg fun q => hb q.2.1, rfl, rfl⟩⟩
theorem oth_sEJ {h : AH} {t a j b : Nat} {v : Int64} (hb : b ≠ a) : (∀ g, (h.sEJ t a j v).I g b = h.I g b ∧ (h.sEJ t a j v).J g b = h.J g b ∧ (h.sEJ t a j v).R g b = h.R g b) ∧ ∀ t' i, (h.sEJ t a j v).EI t' b i = h.EI t' b i ∧ (h.sEJ t a j v).EJ t' b i = h.EJ t' b i ∧ (h.sEJ t a j v).ER t' b i = h.ER t' b i :=
  ⟨fun _ => ⟨rfl, rfl, rfl⟩, fun _ _ => ⟨rfl, if_neg fun q => hb q.2.1, rfl⟩⟩
theorem oth_sER {h : AH} {t a j b : Nat} {v : Option Nat} (hb : b ≠ a) : (∀ g, (h.sER t a j v).I g b = h.I g b ∧ (h.sER t a j v).J g b = h.J g b ∧ (h.sER t a j v).R g b = h.R g b) ∧ ∀ t' i, (h.sER t a j v).EI t' b i = h.EI t' b i ∧ (h.sER t a j v).EJ t' b i = h.EJ t' b i ∧ (h.sER t a j v).ER t' b i = h.ER t' b i :=
  ⟨fun _ => ⟨rfl, rfl, rfl⟩, fun _ _ => ⟨rfl, rfl, if_neg fun q => hb q.2.1⟩⟩
theorem ev_sEI {h : AH} {t a j : Nat} {v : Int32} (e : t % 16 < 3) (i : Nat) : ev (h.sEI t a j v) t a i = updV (ev h t a) j (.int v) i := by
  rw [ev_i e, EI_sEI]; unfold updV; rw [ev_i e]
  by_cases q : i = j <;> simp [q]
theorem ev_sEJ {h : AH} {t a j : Nat} {v : Int64} (e : t % 16 = 3) (i : Nat) : ev (h.sEJ t a j v) t a i = updV (ev h t a) j (.long v) i := by
  rw [ev_l e, EJ_sEJ]; unfold updV; rw [ev_l e]
  by_cases q : i = j <;> simp [q]
theorem ev_sER {h : AH} {t a j : Nat} {v : Option Nat} (e : 4 ≤ t % 16) (i : Nat) : ev (h.sER t a j v) t a i = updV (ev h t a) j (va_rf v) i := by
  rw [ev_r e, ER_sER]; unfold updV; rw [ev_r e]
  by_cases q : i = j <;> simp [q]
/-- the rest of a store, behind the machine's step -/
theorem ast_fin {E : Et} {X : Xt} (o : OK E X) {K : Outcome → AH → Prop} {pc t len a j : Nat} {v : Value} {L r : List Value} {h h' : AH} {H : Heap} {locs : List Loc} {cells slots : Nat} {ls : Array Slot} (h1 : HR X.G h H) (h2 : LX X.wd X.c.maxLocals ls L) (h3 : ∀ q ∈ locs, X.G.b ≤ q.base) (h4 : cells + X.n0 = h.n) (h5 : slots + X.z0 = h.z)
    (ht : h.tag a = some (t, len)) (h64 : 64 ≤ t) (hm : t < 4096) (e1 : h'.n = h.n) (e2 : h'.z = h.z) (e3 : h'.tag = h.tag) (ho : ∀ b, b ≠ a → (∀ f, h'.I f b = h.I f b ∧ h'.J f b = h.J f b ∧ h'.R f b = h.R f b) ∧ ∀ t i, h'.EI t b i = h.EI t b i ∧ h'.EJ t b i = h.EJ t b i ∧ h'.ER t b i = h.ER t b i)
    (hev : ∀ i, ev h' t a i = updV (ev h t a) j v i) (kk : V X K (pc + 1) L r h') :
    ∀ H' : Heap, H'[a]? = some ((arrV (X.G.ca (t % 16)) len (ev h t a)).setSlot j v) → H'.size = H.size → (∀ q, q ≠ a → H'[q]? = H[q]?) → W X.p X.G.l X.e X.R X.s X.m X.args X.below X.meth X.c H' (locs ++ [⟨a, j⟩]) cells slots (QF X K) (F0 X.m (pc + 1) ls r) := by
  intro H' g1 g2 g3
  refine kk H' _ cells slots ls (h1.elt ht h64 hm g1 g2 g3 e1 e2 e3 ho hev) h2 (fun q hq => ?_) (by rw [e1]; exact h4) (by rw [e2]; exact h5)
  rcases List.mem_append.mp hq with q | q
  · exact h3 _ q
  · rw [List.mem_singleton.mp q]; exact (h1.2.2.2.2.2 a t len ht).2.2 hm
def w_iast : Sm := fun _ _ _ nx _ _ L st h => match st with
  | .int x :: .int i :: .ref a :: r => match h.tag a with
    | some (t, len) => ((64 ≤ t ∧ t < 4096 ∧ t % 16 = 0) ∧ vp_in i len) ∧ nx L r (h.sEI t a i.toNatClampNeg x)
    | none => False
  | _ => False
def w_bast : Sm := fun _ _ _ nx _ _ L st h => match st with
  | .int x :: .int i :: .ref a :: r => match h.tag a with
    | some (t, len) => ((64 ≤ t ∧ t < 4096 ∧ (t % 16 = 1 ∨ (t % 16 = 2 ∧ (x = 0 ∨ x = 1)))) ∧ vp_in i len) ∧ nx L r (h.sEI t a i.toNatClampNeg (if t % 16 = 1 then x.toInt8.toInt32 else x))
    | none => False
  | _ => False
def w_last : Sm := fun _ _ _ nx _ _ L st h => match st with
  | .long x :: .int i :: .ref a :: r => match h.tag a with
    | some (t, len) => ((64 ≤ t ∧ t < 4096 ∧ t % 16 = 3) ∧ vp_in i len) ∧ nx L r (h.sEJ t a i.toNatClampNeg x)
    | none => False
  | _ => False
/-- what may lie in an array of objects -/
def fitE (h : AH) (e : Nat) : Option Nat → Prop
  | none => True
  | some b => h.tag b = some (ecl e, 0)
def w_aast : Sm := fun _ _ _ nx _ _ L st h => match st with
  | v :: .int i :: .ref a :: r => match h.tag a with
    | some (t, len) => ((64 ≤ t ∧ t < 4096 ∧ 4 ≤ t % 16 ∧ t % 16 < 13) ∧ vp_in i len ∧ isR v = true ∧ fitE h (t % 16) (rfo v)) ∧ nx L r (h.sER t a i.toNatClampNeg (rfo v))
    | none => False
  | _ => False
theorem s_iast {E : Et} {pc : Nat} (hd : decode E.cc pc = .ok (.iastore, 1)) : Snd E pc w_iast (pc + 1) := by
  intro X o nx jp K k1 k2 L st h hw
  unfold w_iast at hw
  split at hw
  · next x i a r =>
    split at hw
    · next t len ht =>
      obtain ⟨⟨⟨g1, g2, g3⟩, g4⟩, g5⟩ := hw
      intro H locs cells slots ls h1 h2 h3 h4 h5
      obtain ⟨hlen, hc⟩ := h1.arr ht g1
      have ha := arr_is o.2.1.2.2.1 (e := t % 16) (by omega) len (ev h t a)
      rw [show ety (t % 16) = .int by rw [g3]; rfl] at ha
      exact W.iast o.1.1 o.1.2.1 hc ha (fun q => by cases q) (by rw [arrV_size]; exact g4) rfl rfl hd (ast_fin (h' := h.sEI t a i.toNatClampNeg x) o h1 h2 h3 h4 h5 ht g1 g2 rfl rfl rfl (fun b hb => oth_sEI hb) (ev_sEI (by omega)) (k1 _ _ _ g5))
    · exact hw.elim
  · exact hw.elim
theorem s_bast {E : Et} {pc : Nat} (hd : decode E.cc pc = .ok (.bastore, 1)) : Snd E pc w_bast (pc + 1) := by
  intro X o nx jp K k1 k2 L st h hw
  unfold w_bast at hw
  split at hw
  · next x i a r =>
    split at hw
    · next t len ht =>
      obtain ⟨⟨⟨g1, g2, g3⟩, g4⟩, g5⟩ := hw
      intro H locs cells slots ls h1 h2 h3 h4 h5
      obtain ⟨hlen, hc⟩ := h1.arr ht g1
      have ha := arr_is o.2.1.2.2.1 (e := t % 16) (by omega) len (ev h t a)
      rcases g3 with g3 | ⟨g3, gx⟩
      · rw [show ety (t % 16) = .byte by rw [g3]; rfl] at ha
        rw [if_pos g3] at g5
        refine W.bast o.1.1 o.1.2.1 hc ha (fun q => by cases q) (by rw [arrV_size]; exact g4) rfl rfl hd ?_
        rw [show narrow .byte (.int x) = .int x.toInt8.toInt32 from rfl]
        exact ast_fin (h' := h.sEI t a i.toNatClampNeg x.toInt8.toInt32) o h1 h2 h3 h4 h5 ht g1 g2 rfl rfl rfl (fun b hb => oth_sEI hb) (ev_sEI (by omega)) (k1 _ _ _ g5)
      · rw [show ety (t % 16) = .boolean by rw [g3]; rfl] at ha
        rw [if_neg (by omega)] at g5
        refine W.zast o.1.1 o.1.2.1 hc ha (fun q => by cases q) (by rw [arrV_size]; exact g4) rfl rfl hd ?_
        rw [show narrow .boolean (.int x) = .int x by rcases gx with e | e <;> subst e <;> rfl]
        exact ast_fin (h' := h.sEI t a i.toNatClampNeg x) o h1 h2 h3 h4 h5 ht g1 g2 rfl rfl rfl (fun b hb => oth_sEI hb) (ev_sEI (by omega)) (k1 _ _ _ g5)
    · exact hw.elim
  · exact hw.elim
theorem s_last {E : Et} {pc : Nat} (hd : decode E.cc pc = .ok (.lastore, 1)) : Snd E pc w_last (pc + 1) := by
  intro X o nx jp K k1 k2 L st h hw
  unfold w_last at hw
  split at hw
  · next x i a r =>
    split at hw
    · next t len ht =>
      obtain ⟨⟨⟨g1, g2, g3⟩, g4⟩, g5⟩ := hw
      intro H locs cells slots ls h1 h2 h3 h4 h5
      obtain ⟨hlen, hc⟩ := h1.arr ht g1
      have ha := arr_is o.2.1.2.2.1 (e := t % 16) (by omega) len (ev h t a)
      rw [show ety (t % 16) = .long by rw [g3]; rfl] at ha
      exact W.last o.1.1 o.1.2.1 hc ha (fun q => by cases q) (by rw [arrV_size]; exact g4) rfl rfl hd (ast_fin (h' := h.sEJ t a i.toNatClampNeg x) o h1 h2 h3 h4 h5 ht g1 g2 rfl rfl rfl (fun b hb => oth_sEJ hb) (ev_sEJ g3) (k1 _ _ _ g5))
    · exact hw.elim
  · exact hw.elim
theorem s_aast {E : Et} {pc : Nat} (hd : decode E.cc pc = .ok (.aastore, 1)) : Snd E pc w_aast (pc + 1) := by
  intro X o nx jp K k1 k2 L st h hw
  unfold w_aast at hw
  split at hw
  · next v i a r =>
    split at hw
    · next t len ht =>
      obtain ⟨⟨⟨g1, g2, g3, g3'⟩, g4, gr, gf⟩, g5⟩ := hw
      intro H locs cells slots ls h1 h2 h3 h4 h5
      obtain ⟨hlen, hc⟩ := h1.arr ht g1
      have hK := o.2.1.2.2.1
      have ha := arr_is hK (e := t % 16) (by omega) len (ev h t a)
      obtain ⟨r0, c1, c2, c3⟩ := ecl_ok g3 g3'
      rw [c2] at ha
      have fin := ast_fin (h' := h.sER t a i.toNatClampNeg (rfo v)) (j := i.toNatClampNeg) (pc := pc) o h1 h2 h3 h4 h5 ht g1 g2 rfl rfl rfl (fun b hb => oth_sER hb) (fun q => by rw [ev_sER g3]) (k1 _ _ _ g5)
      have hlt : i.toNatClampNeg < len := Nat.not_le.mp fun q => g4 (Or.inr q)
      have h0 : ¬ i < 0 := fun q => g4 (Or.inl q)
      cases v with
      | null => exact va_WaastN (C := r0.1) o.1.1 o.1.2.1 hc ha (fun q => by cases q) (by rw [arrV_size]; exact g4) rfl rfl hd fin
      | ref b =>
        have gb : h.tag b = some (ecl (t % 16), 0) := gf
        obtain ⟨r', c1', cellV, q1, q2, q3, -⟩ := (h1.2.2.2.2.2 b _ _ gb).1 c3
        cases c1.symm.trans c1'
        have hcls := (hK.1.1 _ r0 c1).2
        have hra := (hK.1.2 (t % 16) _ (tys_at (by omega))).2
        rw [c2] at hra
        obtain ⟨kA, comp, k1', k2', k3', -⟩ := hra
        have hcomp : comp = X.G.D.1 (ecl (t % 16)) := Option.some.inj (k3'.symm.trans hcls.1)
        subst hcomp
        obtain ⟨kC, hkC, -⟩ := hcls.2
        exact W.aast o.1.1 o.1.2.1 hc (fun q h => by cases h) (fun h => by cases h) k1' k2' rfl hkC ⟨h0, by rw [arrV_size]; exact hlt⟩ q1 (fun q h => by rw [q3] at h; cases h) (by rw [q2]; exact hkC) (by rw [q2]; exact va_assign hcls) rfl rfl hd fin
      | _ => exact absurd gr Bool.false_ne_true
    · exact hw.elim
  · exact hw.elim
def w_alen : Sm := fun _ _ _ nx _ _ L st h => match st with
  | .ref a :: r => match h.tag a with
    | some (t, len) => (64 ≤ t ∧ t % 16 < 13) ∧ nx L (.int (nI len) :: r) h
    | none => False
  | _ => False
theorem s_alen {E : Et} {pc : Nat} (hd : decode E.cc pc = .ok (.arraylength, 1)) : Snd E pc w_alen (pc + 1) := by
  intro X o nx jp K k1 k2 L st h hw
  unfold w_alen at hw
  split at hw
  · next a r =>
    split at hw
    · next t len ht =>
      obtain ⟨⟨g1, g2⟩, g5⟩ := hw
      intro H locs cells slots ls h1 h2 h3 h4 h5
      obtain ⟨hlen, hc⟩ := h1.arr ht g1
      exact W.alen o.1.1 o.1.2.1 hc (arr_is o.2.1.2.2.1 (e := t % 16) (by omega) len (ev h t a)) (by rw [arrV_size]; rfl) rfl rfl hd (k1 _ _ _ g5 H locs cells slots ls h1 h2 h3 h4 h5)
    · exact hw.elim
  · exact hw.elim
