/-- what is known of a class: its row, its words, its fields' types and names -/
def CF (t : Nat) (C : String) (T : u_T) (N : Nat) (ty : Nat → FieldType) : Prop := t < 64 ∧ cl_[t]? = some (C, T, N) ∧ (∀ w ∈ u_ws C T N, w ∈ lw_all) ∧ (∀ k, k < N → parseFieldDescriptor (T k).2.2.1 = some (ty k)) ∧ (∀ a, a < N → ∀ b, b < N → a ≠ b → (T a).2.1 ≠ (T b).2.1) ∧ (∀ k, k < N → fk t k < 3 ∧ fk t k = match ty k with | .int => 0 | .boolean => 0 | .long => 1 | .object _ => 2 | .array _ => 2 | _ => 9)
/-- a link to a field: the class's own, or a nest mate's -/
def LK (E : Et) (i : Nat) (T : u_T) (k : Nat) : Prop := Cond.fieldLink E.y.cls i (T k).1 (T k).2.1 (T k).2.2.1 ∈ lw_all ∨ ∃ host, Cond.fieldLinkNest E.y.cls i (T k).1 (T k).2.1 (T k).2.2.1 host ∈ nst_
theorem LK.own {E : Et} {i : Nat} {T : u_T} {k : Nat} (h : Cond.fieldLink E.y.cls i (T k).1 (T k).2.1 (T k).2.2.1 ∈ lw_all) : LK E i T k := Or.inl h
theorem LK.nest {E : Et} {i : Nat} {T : u_T} {k : Nat} {host : String} (h : Cond.fieldLinkNest E.y.cls i (T k).1 (T k).2.1 (T k).2.2.1 host ∈ lw_tbl) : LK E i T k := Or.inr ⟨host, List.mem_filter.mpr ⟨h, rfl⟩⟩
theorem get_core {E : Et} {X : Xt} (o : OK E X) {K : Outcome → AH → Prop} {pc t k i a : Nat} {C : String} {T : u_T} {N : Nat} {ty : Nat → FieldType} (hd : decode E.cc pc = .ok (.getfield i, 3)) (hc : CF t C T N ty) (hk : k < N) (hl : LK E i T k)
    {L r : List Value} {h : AH} (ht : h.tag a = some (t, 0)) (kk : V X K (pc + 3) L (fv h t k a :: r) h) : V X K pc L (.ref a :: r) h := by
  intro H locs cells slots ls h1 h2 h3 h4 h5
  obtain ⟨c1, c2, c3, c4, c5, -⟩ := hc
  obtain ⟨r0, e1, e2⟩ := (h1.2.2.2.2.2 a t 0 ht).1 c1
  have hP : va_P X.G.D cl_ [(a, .inr (t, (List.range N).map fun k => fv h t k a))] H := by
    intro q x hx
    have hz : q < 1 := (List.getElem?_eq_some_iff.mp hx).1
    rw [show q = 0 by omega] at hx
    cases hx
    refine ⟨r0, e1, e2.to fun k' hk' => ?_⟩
    have : r0.2.2 = N := by rw [e1] at c2; cases c2; rfl
    rw [this] at hk'
    simp [vp_V, hk']
  have hv : ((List.range N).map fun k => fv h t k a)[k]? = some (fv h t k a) := by simp [hk]
  rcases hl with hl | ⟨host, hl⟩
  · exact va_get o.1.1 o.1.2.1 o.2.1.2.1 c3 o.2.1.1 o.2.1.2.2.1.1 hP 0 rfl c2 k hk (o.2.1.2.1 _ hl) (fun _ q => q) hv hd (kk H locs cells slots ls h1 h2 h3 h4 h5)
  · exact va_getN (host := host) o.1.1 o.1.2.1 o.2.1.2.1 c3 o.2.1.1 o.2.1.2.2.1.1 hP 0 rfl c2 k hk (va_Nw.use rfl (o.2.1.2.2.1.2.1 _ hl)) (fun _ q => q) hv hd (kk H locs cells slots ls h1 h2 h3 h4 h5)
def w_gI (t f : Nat) : Sm := fun _ _ _ nx _ _ L st h => match st with
  | .ref a :: r => h.tag a = some (t, 0) ∧ nx L (.int (h.I f a) :: r) h
  | _ => False
def w_gJ (t f : Nat) : Sm := fun _ _ _ nx _ _ L st h => match st with
  | .ref a :: r => h.tag a = some (t, 0) ∧ nx L (.long (h.J f a) :: r) h
  | _ => False
def w_gR (t f : Nat) : Sm := fun _ _ _ nx _ _ L st h => match st with
  | .ref a :: r => h.tag a = some (t, 0) ∧ nx L (va_rf (h.R f a) :: r) h
  | _ => False
theorem s_gI {E : Et} {pc t f i : Nat} {C : String} {T : u_T} {N : Nat} {ty : Nat → FieldType} (k : Nat) (hd : decode E.cc pc = .ok (.getfield i, 3)) (hc : CF t C T N ty) (hk : k < N) (hl : LK E i T k) (hf : 128 * t + k = f) (hq : fk t k = 0) : Snd E pc (w_gI t f) (pc + 3) := by
  intro X o nx jp K k1 k2 L st h hw
  unfold w_gI at hw
  split at hw
  · refine get_core o hd hc hk hl hw.1 ?_
    have : ∀ a, fv h t k a = .int (h.I f a) := fun a => by rw [fv0 hq, hf]
    rw [this]; exact k1 _ _ _ hw.2
  · exact hw.elim
theorem s_gJ {E : Et} {pc t f i : Nat} {C : String} {T : u_T} {N : Nat} {ty : Nat → FieldType} (k : Nat) (hd : decode E.cc pc = .ok (.getfield i, 3)) (hc : CF t C T N ty) (hk : k < N) (hl : LK E i T k) (hf : 128 * t + k = f) (hq : fk t k = 1) : Snd E pc (w_gJ t f) (pc + 3) := by
  intro X o nx jp K k1 k2 L st h hw
  unfold w_gJ at hw
  split at hw
  · refine get_core o hd hc hk hl hw.1 ?_
    have : ∀ a, fv h t k a = .long (h.J f a) := fun a => by rw [fv1 hq, hf]
    rw [this]; exact k1 _ _ _ hw.2
  · exact hw.elim
theorem s_gR {E : Et} {pc t f i : Nat} {C : String} {T : u_T} {N : Nat} {ty : Nat → FieldType} (k : Nat) (hd : decode E.cc pc = .ok (.getfield i, 3)) (hc : CF t C T N ty) (hk : k < N) (hl : LK E i T k) (hf : 128 * t + k = f) (hq : fk t k = 2) : Snd E pc (w_gR t f) (pc + 3) := by
  intro X o nx jp K k1 k2 L st h hw
  unfold w_gR at hw
  split at hw
  · refine get_core o hd hc hk hl hw.1 ?_
    have : ∀ a, fv h t k a = va_rf (h.R f a) := fun a => by rw [fv2 hq, hf]
    rw [this]; exact k1 _ _ _ hw.2
  · exact hw.elim
/-! stores -/
theorem HR.put {G : Gt} {h h' : AH} {H H' : Heap} (hH : HR G h H) {t k a : Nat} {v : Value} {r : vw_C} {cell : Cell} (ht : h.tag a = some (t, 0)) (hlt : t < 64) (hc : cl_[t]? = some r) (hk : k < r.2.2)
    (hap : ∀ x y, x < r.2.2 → y < r.2.2 → x ≠ y → G.D.2 t x ≠ G.D.2 t y) (g1 : H[a]? = some cell) (e1 : H'[a]? = some (cell.setSlot (G.D.2 t k) v)) (hs : H'.size = H.size) (hq : ∀ q, q ≠ a → H'[q]? = H[q]?)
    (hn : h'.n = h.n) (hz : h'.z = h.z) (htg : h'.tag = h.tag) (ho : ∀ b, b ≠ a → (∀ f, h'.I f b = h.I f b ∧ h'.J f b = h.J f b ∧ h'.R f b = h.R f b) ∧ ∀ t i, h'.EI t b i = h.EI t b i ∧ h'.EJ t b i = h.EJ t b i ∧ h'.ER t b i = h.ER t b i)
    (hfv : ∀ j, fv h' t j a = updV (fun j => fv h t j a) k v j) : HR G h' H' := by
  refine hH.one hn hz htg a (hH.lt ht) ((hH.2.2.2.2.2 a t 0 ht).2.2 (by omega)) ho hs hq fun t' len' ht' => ?_
  rw [ht] at ht'
  cases ht'
  refine ⟨fun _ => ⟨r, hc, ?_⟩, fun q => by omega, (hH.2.2.2.2.2 a t 0 ht).2.2⟩
  obtain ⟨r', e1', cell', g1', g2, g3, g4⟩ := (hH.2.2.2.2.2 a t 0 ht).1 hlt
  cases hc.symm.trans e1'
  cases g1.symm.trans g1'
  refine ⟨_, e1, g2, g3, fun j hj => ?_⟩
  show _ = some (fv h' t j a)
  rw [hfv j]
  exact t_set g4 hap hk v j hj
theorem put_core {E : Et} {X : Xt} (o : OK E X) {K : Outcome → AH → Prop} {pc t k i a : Nat} {C : String} {T : u_T} {N : Nat} {ty : Nat → FieldType} {v : Value} (hd : decode E.cc pc = .ok (.putfield i, 3)) (hc : CF t C T N ty) (hk : k < N) (hl : LK E i T k)
    (hfin : (T k).2.2.2 = false ∨ ((T k).2.2.2 = true ∧ (T k).1 = E.y.cls ∧ E.y.name = "<init>" ∧ Cond.fieldLink E.y.cls i (T k).1 (T k).2.1 (T k).2.2.1 ∈ lw_all)) (hn : narrow (ty k) v = v) (hfit : fits (ty k) v = true)
    {L r : List Value} {h h' : AH} (ht : h.tag a = some (t, 0)) (e1 : h'.n = h.n) (e2 : h'.z = h.z) (e3 : h'.tag = h.tag) (ho : ∀ b, b ≠ a → (∀ f, h'.I f b = h.I f b ∧ h'.J f b = h.J f b ∧ h'.R f b = h.R f b) ∧ ∀ t i, h'.EI t b i = h.EI t b i ∧ h'.EJ t b i = h.EJ t b i ∧ h'.ER t b i = h.ER t b i)
    (hfv : ∀ j, fv h' t j a = updV (fun j => fv h t j a) k v j) (kk : V X K (pc + 3) L r h') : V X K pc L (v :: .ref a :: r) h := by
  intro H locs cells slots ls h1 h2 h3 h4 h5
  obtain ⟨c1, c2, c3, c4, c5, -⟩ := hc
  have hK := o.2.1.2.2.1.1
  have hts := o.2.1.2.1
  have hap := va_apart (own := E.y.cls) hts c3 ty c4 c5 hK c2
  obtain ⟨r0, f1, cell, q1, q2, q3, q4⟩ := (h1.2.2.2.2.2 a t 0 ht).1 c1
  cases f1.symm.trans c2
  obtain ⟨hS, hfc, kC, hkC, hkind⟩ := hK.1 t _ c2
  obtain ⟨cf, kf, fi, f, hi, hsl⟩ := hS k hk
  have hst := (u_facts hfc hkC (u_lays hts c3 hk) hi).1
  have hb := (h1.2.2.2.2.2 a t 0 ht).2.2 (by omega)
  have fin : ∀ H' : Heap, H'[a]? = some (cell.setSlot f.slot v) → H'.size = H.size → (∀ q, q ≠ a → H'[q]? = H[q]?) → W X.p X.G.l X.e X.R X.s X.m X.args X.below X.meth X.c H' (locs ++ [⟨a, f.slot⟩]) cells slots (QF X K) (F0 X.m (pc + 3) ls r) := by
    intro H' g1 g2 g3
    rw [hsl] at g1
    refine kk H' _ cells slots ls (h1.put ht c1 c2 hk hap q1 g1 g2 g3 e1 e2 e3 ho hfv) h2 (fun q hq => ?_) (by rw [e1]; exact h4) (by rw [e2]; exact h5)
    rcases List.mem_append.mp hq with q | q
    · exact h3 _ q
    · rw [List.mem_singleton.mp q]; exact hb
  rcases hfin with hfin | ⟨hfin, hdecl, hini, hlk⟩
  · have hlay := hts _ (c3 _ (u_in_lay hk))
    unfold u_lay at hlay
    rw [if_neg (by rw [hfin]; decide)] at hlay
    have h6 := u_store hfc hkC hkind hlay hi (c4 k hk) hn hfit
    rcases hl with hl | ⟨host, hl⟩
    · exact W.putK o.1.1 o.1.2.1 (f := f) ⟨o.2.1.1, hts _ hl, ⟨_, _, _, hi⟩, hst⟩ (by rw [q2]; exact h6) q1 q3 (by rw [hsl]; exact k2_hasslot (q4 k hk)) rfl rfl hd fin
    · exact va_WputK (host := host) o.1.1 o.1.2.1 (f := f) o.2.1.1 (va_Nw.use rfl (o.2.1.2.2.1.2.1 _ hl)) hi hst (by rw [q2]; exact h6) q1 q3 (by rw [hsl]; exact k2_hasslot (q4 k hk)) rfl rfl hd fin
  · have hlay := hts _ (c3 _ (u_in_lay hk))
    unfold u_lay at hlay
    rw [if_pos hfin] at hlay
    have hcf : X.m.cls = cf := by
      obtain ⟨_, _, c', _, _, _, -, -, hf', -, -, -, hown2, -⟩ := Cond.laysFinal_spec hlay
      have e1 : c' = cf := by have := hi.symm.trans hf'; simp at this; exact this.1.symm
      rw [hdecl] at hown2
      rw [← e1]; exact Option.some.inj (o.2.1.1.symm.trans hown2)
    have h6 := u_fits hfc hkC hkind (Or.inr hlay) hi (c4 k hk) hn hfit
    exact W.putFinK o.1.1 o.1.2.1 o.2.1.1 (hts _ hlk) hi hst hcf (by rw [o.1.2.2.2.2.2.1]; exact hini) (by rw [q2]; exact h6) q1 q3 (by rw [hsl]; exact k2_hasslot (q4 k hk)) rfl rfl hd fin
/-- a field may be written: it isn't final, or it is written by its class's own constructor -/
def WF (E : Et) (i : Nat) (T : u_T) (k : Nat) : Prop := (T k).2.2.2 = false ∨ ((T k).2.2.2 = true ∧ (T k).1 = E.y.cls ∧ E.y.name = "<init>" ∧ Cond.fieldLink E.y.cls i (T k).1 (T k).2.1 (T k).2.2.1 ∈ lw_all)
def w_pI (t f : Nat) : Sm := fun _ _ _ nx _ _ L st h => match st with
  | .int v :: .ref a :: r => h.tag a = some (t, 0) ∧ nx L r (h.sI f a v)
  | _ => False
def w_pZ (t f : Nat) : Sm := fun _ _ _ nx _ _ L st h => match st with
  | .int v :: .ref a :: r => (h.tag a = some (t, 0) ∧ (v = 0 ∨ v = 1)) ∧ nx L r (h.sI f a v)
  | _ => False
def w_pJ (t f : Nat) : Sm := fun _ _ _ nx _ _ L st h => match st with
  | .long v :: .ref a :: r => h.tag a = some (t, 0) ∧ nx L r (h.sJ f a v)
  | _ => False
def rfo : Value → Option Nat
  | .ref a => some a
  | _ => none
theorem rfo_rf (o : Option Nat) : rfo (va_rf o) = o := by cases o <;> rfl
theorem rf_rfo {v : Value} (h : isR v = true) : va_rf (rfo v) = v := by cases v <;> first | rfl | exact absurd h Bool.false_ne_true
def w_pR (t f : Nat) : Sm := fun _ _ _ nx _ _ L st h => match st with
  | v :: .ref a :: r => (h.tag a = some (t, 0) ∧ isR v = true) ∧ nx L r (h.sR f a (rfo v))
  | _ => False
theorem oth_sI {h : AH} {f a b : Nat} {v : Int32} (hb : b ≠ a) : (∀ g, (h.sI f a v).I g b = h.I g b ∧ (h.sI f a v).J g b = h.J g b ∧ (h.sI f a v).R g b = h.R g b) ∧ ∀ t i, (h.sI f a v).EI t b i = h.EI t b i ∧ (h.sI f a v).EJ t b i = h.EJ t b i ∧ (h.sI f a v).ER t b i = h.ER t b i :=
  ⟨fun g => ⟨if_neg fun q => hb q.2, rfl, rfl⟩, fun _ _ => ⟨rfl, rfl, rfl⟩⟩
theorem oth_sJ {h : AH} {f a b : Nat} {v : Int64} (hb : b ≠ a) : (∀ g, (h.sJ f a v).I g b = h.I g b ∧ (h.sJ f a v).J g b = h.J g b ∧ (h.sJ f a v).R g b = h.R g b) ∧ ∀ t i, (h.sJ f a v).EI t b i = h.EI t b i ∧ (h.sJ f a v).EJ t b i = h.EJ t b i ∧ (h.sJ f a v).ER t b i = h.ER t b i :=
  ⟨fun g => ⟨rfl, if_neg fun q => hb q.2, rfl⟩, fun _ _ => ⟨rfl, rfl, rfl⟩⟩
theorem oth_sR {h : AH} {f a b : Nat} {v : Option Nat} (hb : b ≠ a) : (∀ g, (h.sR f a v).I g b = h.I g b ∧ (h.sR f a v).J g b = h.J g b ∧ (h.sR f a v).R g b = h.R g b) ∧ ∀ t i, (h.sR f a v).EI t b i = h.EI t b i ∧ (h.sR f a v).EJ t b i = h.EJ t b i ∧ (h.sR f a v).ER t b i = h.ER t b i :=
  ⟨fun g => ⟨rfl, rfl, if_neg fun q => hb q.2⟩, fun _ _ => ⟨rfl, rfl, rfl⟩⟩
theorem fv_sI {h : AH} {t k a : Nat} {v : Int32} (hq : fk t k = 0) (j : Nat) : fv (h.sI (128 * t + k) a v) t j a = updV (fun j => fv h t j a) k (.int v) j := by
  unfold updV
  by_cases hj : j = k
  · subst hj
    rw [if_pos rfl, fv0 hq, I_sI, if_pos ⟨rfl, rfl⟩]
  · rw [if_neg hj]
    have hne : ¬ (128 * t + j = 128 * t + k) := fun q => hj (by omega)
    simp only [fv, I_sI, J_sI, R_sI, hne, false_and, if_false]
theorem fv_sJ {h : AH} {t k a : Nat} {v : Int64} (hq : fk t k = 1) (j : Nat) : fv (h.sJ (128 * t + k) a v) t j a = updV (fun j => fv h t j a) k (.long v) j := by
  unfold updV
  by_cases hj : j = k
  · subst hj
    rw [if_pos rfl, fv1 hq, J_sJ, if_pos ⟨rfl, rfl⟩]
  · rw [if_neg hj]
    have hne : ¬ (128 * t + j = 128 * t + k) := fun q => hj (by omega)
    simp only [fv, I_sJ, J_sJ, R_sJ, hne, false_and, if_false]
theorem fv_sR {h : AH} {t k a : Nat} {v : Option Nat} (hq : fk t k = 2) (j : Nat) : fv (h.sR (128 * t + k) a v) t j a = updV (fun j => fv h t j a) k (va_rf v) j := by
  unfold updV
  by_cases hj : j = k
  · subst hj
    rw [if_pos rfl, fv2 hq, R_sR, if_pos ⟨rfl, rfl⟩]
  · rw [if_neg hj]
    have hne : ¬ (128 * t + j = 128 * t + k) := fun q => hj (by omega)
    simp only [fv, I_sR, J_sR, R_sR, hne, false_and, if_false]
theorem s_pI {E : Et} {pc t f i : Nat} {C : String} {T : u_T} {N : Nat} {ty : Nat → FieldType} (k : Nat) (hd : decode E.cc pc = .ok (.putfield i, 3)) (hc : CF t C T N ty) (hk : k < N) (hl : LK E i T k) (hw : WF E i T k) (hf : 128 * t + k = f) (hq : fk t k = 0) (hty : ty k = .int) : Snd E pc (w_pI t f) (pc + 3) := by
  intro X o nx jp K k1 k2 L st h hw2
  unfold w_pI at hw2
  split at hw2
  · next v a r =>
    subst hf
    exact put_core (h' := h.sI (128 * t + k) a v) o hd hc hk hl hw (by rw [hty]; rfl) (by rw [hty]; rfl) hw2.1 rfl rfl rfl (fun b hb => oth_sI hb) (fv_sI hq) (k1 _ _ _ hw2.2)
  · exact hw2.elim
theorem s_pZ {E : Et} {pc t f i : Nat} {C : String} {T : u_T} {N : Nat} {ty : Nat → FieldType} (k : Nat) (hd : decode E.cc pc = .ok (.putfield i, 3)) (hc : CF t C T N ty) (hk : k < N) (hl : LK E i T k) (hw : WF E i T k) (hf : 128 * t + k = f) (hq : fk t k = 0) (hty : ty k = .boolean) : Snd E pc (w_pZ t f) (pc + 3) := by
  intro X o nx jp K k1 k2 L st h hw2
  unfold w_pZ at hw2
  split at hw2
  · next v a r =>
    subst hf
    have e1 : narrow .boolean (.int v) = .int v := by rcases hw2.1.2 with e | e <;> subst e <;> rfl
    have e2 : fits .boolean (.int v) = true := by rcases hw2.1.2 with e | e <;> subst e <;> rfl
    exact put_core (h' := h.sI (128 * t + k) a v) o hd hc hk hl hw (by rw [hty]; exact e1) (by rw [hty]; exact e2) hw2.1.1 rfl rfl rfl (fun b hb => oth_sI hb) (fv_sI hq) (k1 _ _ _ hw2.2)
  · exact hw2.elim
theorem s_pJ {E : Et} {pc t f i : Nat} {C : String} {T : u_T} {N : Nat} {ty : Nat → FieldType} (k : Nat) (hd : decode E.cc pc = .ok (.putfield i, 3)) (hc : CF t C T N ty) (hk : k < N) (hl : LK E i T k) (hw : WF E i T k) (hf : 128 * t + k = f) (hq : fk t k = 1) (hty : ty k = .long) : Snd E pc (w_pJ t f) (pc + 3) := by
  intro X o nx jp K k1 k2 L st h hw2
  unfold w_pJ at hw2
  split at hw2
  · next v a r =>
    subst hf
    exact put_core (h' := h.sJ (128 * t + k) a v) o hd hc hk hl hw (by rw [hty]; rfl) (by rw [hty]; rfl) hw2.1 rfl rfl rfl (fun b hb => oth_sJ hb) (fv_sJ hq) (k1 _ _ _ hw2.2)
  · exact hw2.elim
theorem s_pR {E : Et} {pc t f i : Nat} {C : String} {T : u_T} {N : Nat} {ty : Nat → FieldType} (k : Nat) (hd : decode E.cc pc = .ok (.putfield i, 3)) (hc : CF t C T N ty) (hk : k < N) (hl : LK E i T k) (hw : WF E i T k) (hf : 128 * t + k = f) (hq : fk t k = 2) (hty : (ty k).isReference = true) : Snd E pc (w_pR t f) (pc + 3) := by
  intro X o nx jp K k1 k2 L st h hw2
  unfold w_pR at hw2
  split at hw2
  · next v a r =>
    subst hf
    obtain ⟨⟨g1, g2⟩, g3⟩ := hw2
    have e : va_rf (rfo v) = v := rf_rfo g2
    have n1 : narrow (ty k) v = v := by cases v <;> first | (exact absurd g2 Bool.false_ne_true) | (cases hh : ty k <;> first | rfl | (rw [hh] at hty; exact absurd hty Bool.false_ne_true))
    have n2 : fits (ty k) v = true := by cases v <;> first | (exact absurd g2 Bool.false_ne_true) | (cases hh : ty k <;> first | rfl | (rw [hh] at hty; exact absurd hty Bool.false_ne_true))
    exact put_core (h' := h.sR (128 * t + k) a (rfo v)) o hd hc hk hl hw n1 n2 g1 rfl rfl rfl (fun b hb => oth_sR hb) (fun j => by rw [fv_sR hq, e]) (k1 _ _ _ g3)
  · exact hw2.elim
