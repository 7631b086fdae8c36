/-! cells that are made -/
def w_new (t sl : Nat) : Sm := fun G _ _ nx _ _ L st h => (h.n + 1 ≤ G.ln ∧ h.z + sl ≤ G.ls) ∧ nx L (.ref h.n :: st) (h.nw t 0 sl)
theorem s_new {E : Et} {pc t i N : Nat} {C : String} {T : u_T} {ty : Nat → FieldType} (hd : decode E.cc pc = .ok (.new i, 3)) (hc : CF t C T N ty) (h1 : Cond.classLink E.y.cls i C ∈ lw_all) (h2 : Cond.instantiable C N ∈ lw_all) (h3 : Cond.initialized C ∈ lw_all) : Snd E pc (w_new t N) (pc + 3) := by
  intro X o nx jp K k1 k2 L st h hw
  obtain ⟨⟨b1, b2⟩, hw⟩ := hw
  intro H locs cells slots ls g1 g2 g3 g4 g5
  obtain ⟨c1, c2, c3, c4, c5, c6⟩ := hc
  have hts := o.2.1.2.1
  have hKn := o.2.1.2.2.1.1.1 t _ c2
  have r := o.2.2
  refine W.newcK o.1.1 o.1.2.1 o.2.1.1 (hts _ h1) (hts _ h2) (hts _ h3) rfl hd (by omega) (by omega) hKn.2.1 g1.1 fun H1 kC hkC e1 z1 o1 => ?_
  refine k1 _ _ _ hw H1 locs (cells + 1) (slots + N) ls (g1.born t 0 N z1 o1 b1 b2 ?_) g2 g3 (by show cells + 1 + X.n0 = h.n + 1; omega) (by show slots + N + X.z0 = h.z + N; omega)
  refine ⟨fun _ => ⟨_, c2, (u_born ty hts c3 hKn hkC e1 c4).to fun k hk => ?_⟩, fun q => by omega, fun _ => g1.2.1.1⟩
  obtain ⟨-, f1, -⟩ := g1.2.2.2.2.1 h.n (Nat.le_refl _)
  obtain ⟨f3, f2⟩ := c6 k hk
  cases hty : ty k <;> rw [hty] at f2 <;> first
    | (rw [fv0 f2]; show _ = Value.int (h.I _ _); rw [(f1 _).1]; rfl)
    | (rw [fv1 f2]; show _ = Value.long (h.J _ _); rw [(f1 _).2.1]; rfl)
    | (rw [fv2 f2]; show _ = va_rf (h.R _ _); rw [(f1 _).2.2]; rfl)
    | (rw [f2] at f3; exact absurd f3 (by decide))
def w_newa (t : Nat) : Sm := fun G _ _ nx _ _ L st h => match st with
  | .int n :: r => ((64 ≤ t ∧ t < 4096) ∧ ¬ n < 0 ∧ n.toNatClampNeg ≤ 65536 ∧ h.n + 1 ≤ G.ln ∧ h.z + n.toNatClampNeg ≤ G.ls) ∧ nx L (.ref h.n :: r) (h.nw t n.toNatClampNeg n.toNatClampNeg)
  | _ => False
theorem ev_nw {G : Gt} {h : AH} {H : Heap} (hH : HR G h H) (t len sl j : Nat) : ev (h.nw t len sl) t h.n j = if t % 16 < 3 then .int 0 else if t % 16 = 3 then .long 0 else .null := by
  obtain ⟨-, -, f1⟩ := hH.2.2.2.2.1 h.n (Nat.le_refl _)
  unfold ev
  rw [EI_nw, EJ_nw, ER_nw, (f1 t j).1, (f1 t j).2.1, (f1 t j).2.2]; rfl
theorem s_newa {E : Et} {pc t : Nat} {at_ : ArrayType} (hd : decode E.cc pc = .ok (.newarray at_, 2)) (hw : Cond.arrayClass (newarray.typeOf at_) ∈ lw_all) (he : t % 16 < 4 ∧ ety (t % 16) = newarray.typeOf at_) : Snd E pc (w_newa t) (pc + 2) := by
  intro X o nx jp K k1 k2 L st h hw2
  unfold w_newa at hw2
  split at hw2
  · next n r =>
    obtain ⟨⟨⟨b1, b1'⟩, b2, b3, b4, b5⟩, hw2⟩ := hw2
    intro H locs cells slots ls g1 g2 g3 g4 g5
    have rr := o.2.2
    have hcb : componentBytes (newarray.typeOf at_) ≤ 8 := by cases at_ <;> decide
    refine va_newaK o.1.1 o.1.2.1 (o.2.1.2.1 _ hw) rfl hd rfl b2 rfl (Nat.le_trans (Nat.mul_le_mul b3 hcb) (by decide)) (by omega) (by omega) g1.1 fun H1 cA e1 z1 o1 hAr hNm => ?_
    have hra := (o.2.1.2.2.1.1.2 (t % 16) _ (tys_at (by omega))).2
    have hca : cA = X.G.ca (t % 16) := by
      have : X.s.vm.findClass ("[" ++ (newarray.typeOf at_).toString) = some (X.G.ca (t % 16)) := by
        have h9 : va_RA X.s (X.G.ca (t % 16)) (ety (t % 16)) := hra
        rw [he.2] at h9
        cases at_ <;> exact h9
      exact Option.some.inj (hNm.symm.trans this)
    subst hca
    refine k1 _ _ _ hw2 H1 locs (cells + 1) (slots + n.toNatClampNeg) ls (g1.born t _ _ z1 o1 b4 b5 ?_) g2 g3 (by show cells + 1 + X.n0 = h.n + 1; omega) (by show slots + n.toNatClampNeg + X.z0 = h.z + n.toNatClampNeg; omega)
    refine ⟨fun q => by omega, fun _ => ⟨by omega, ?_⟩, fun _ => g1.2.1.1⟩
    rw [e1]
    congr 2
    funext j
    rw [ev_nw g1]
    have h9 := he.2
    have : t % 16 = 0 ∨ t % 16 = 1 ∨ t % 16 = 2 ∨ t % 16 = 3 := by omega
    rcases this with q | q | q | q <;> rw [q] at h9 ⊢ <;> rw [← h9] <;> rfl
  · exact hw2.elim
def w_anew (t : Nat) : Sm := fun G _ _ nx _ _ L st h => match st with
  | .int n :: r => ((64 ≤ t ∧ t < 4096) ∧ ¬ n < 0 ∧ n.toNatClampNeg ≤ 65536 ∧ h.n + 1 ≤ G.ln ∧ h.z + n.toNatClampNeg ≤ G.ls) ∧ nx L (.ref h.n :: r) (h.nw t n.toNatClampNeg n.toNatClampNeg)
  | _ => False
theorem s_anew {E : Et} {pc t i : Nat} {C : String} (hd : decode E.cc pc = .ok (.anewarray i, 3)) (hw : Cond.classLink E.y.cls i C ∈ lw_all) (he : (4 ≤ t % 16 ∧ t % 16 < 13) ∧ ety (t % 16) = .object C) : Snd E pc (w_anew t) (pc + 3) := by
  intro X o nx jp K k1 k2 L st h hw2
  unfold w_anew at hw2
  split at hw2
  · next n r =>
    obtain ⟨⟨⟨b1, b1'⟩, b2, b3, b4, b5⟩, hw2⟩ := hw2
    intro H locs cells slots ls g1 g2 g3 g4 g5
    have rr := o.2.2
    refine W.anew o.1.1 o.1.2.1 o.2.1.1 (o.2.1.2.1 _ hw) (o.2.1.2.2.1.2.2.1 C _ he.1.1 he.1.2 he.2).use rfl hd rfl b2 (by omega) (by omega) (by omega) fun cA kA comp q1 q2 q3 q4 => ?_
    have hra := (o.2.1.2.2.1.1.2 (t % 16) _ (tys_at he.1.2)).2
    have h9 : va_RA X.s (X.G.ca (t % 16)) (ety (t % 16)) := hra
    rw [he.2] at h9
    obtain ⟨_, _, _, _, _, h9⟩ := h9
    have hca : cA = X.G.ca (t % 16) := Option.some.inj (q1.symm.trans h9)
    subst hca
    have e0 : H.size = h.n := g1.1
    rw [e0]
    refine k1 _ _ _ hw2 _ locs (cells + 1) (slots + n.toNatClampNeg) ls (g1.born t _ _ (by simp [e0]) (fun q hq => by rw [Array.getElem?_push, if_neg (by omega)]) b4 b5 ?_) g2 g3 (by show cells + 1 + X.n0 = h.n + 1; omega) (by show slots + n.toNatClampNeg + X.z0 = h.z + n.toNatClampNeg; omega)
    refine ⟨fun q => by omega, fun _ => ⟨by omega, ?_⟩, fun _ => g1.2.1.1⟩
    rw [← e0]
    simp only [Array.getElem?_push_size]
    rw [arrV_new, e0]
    congr 2
    funext j
    rw [ev_nw g1, if_neg (by omega), if_neg (by omega)]
  · exact hw2.elim
/-! null or not, the same object or not, switches -/
def w_ifnull (t : Nat) : Sm := fun _ _ _ nx jp _ L st h => match st with
  | v :: r => isR v = true ∧ (rfo v = none → jp t L r h) ∧ (∀ a, rfo v = some a → nx L r h)
  | _ => False
def w_ifnn (t : Nat) : Sm := fun _ _ _ nx jp _ L st h => match st with
  | v :: r => isR v = true ∧ (rfo v = none → nx L r h) ∧ (∀ a, rfo v = some a → jp t L r h)
  | _ => False
theorem s_ifnull {E : Et} {pc t : Nat} {off : Int} (hd : decode E.cc pc = .ok (.ifnull off, 3)) (ht : (pc : Int) + off = (t : Int)) : Snd E pc (w_ifnull t) (pc + 3) := by
  intro X o nx jp K k1 k2 L st h hw
  unfold w_ifnull at hw
  split at hw
  · next v r =>
    intro H locs cells slots ls h1 h2 h3 h4 h5
    obtain ⟨hr, a, b⟩ := hw
    cases v with
    | null => exact lv_ifnullN o.1.1 o.1.2.1 hd ht (k2 _ _ _ _ (a rfl) H locs cells slots ls h1 h2 h3 h4 h5)
    | ref x => exact lv_ifnull o.1.1 o.1.2.1 hd (k1 _ _ _ (b x rfl) H locs cells slots ls h1 h2 h3 h4 h5)
    | _ => exact absurd hr Bool.false_ne_true
  · exact hw.elim
theorem s_ifnn {E : Et} {pc t : Nat} {off : Int} (hd : decode E.cc pc = .ok (.ifnonnull off, 3)) (ht : (pc : Int) + off = (t : Int)) : Snd E pc (w_ifnn t) (pc + 3) := by
  intro X o nx jp K k1 k2 L st h hw
  unfold w_ifnn at hw
  split at hw
  · next v r =>
    intro H locs cells slots ls h1 h2 h3 h4 h5
    obtain ⟨hr, a, b⟩ := hw
    cases v with
    | null => exact lv_ifnonnullN o.1.1 o.1.2.1 hd (k1 _ _ _ (a rfl) H locs cells slots ls h1 h2 h3 h4 h5)
    | ref x => exact lv_ifnonnull o.1.1 o.1.2.1 hd ht (k2 _ _ _ _ (b x rfl) H locs cells slots ls h1 h2 h3 h4 h5)
    | _ => exact absurd hr Bool.false_ne_true
  · exact hw.elim
def w_acne (t : Nat) : Sm := fun _ _ _ nx jp _ L st h => match st with
  | w :: v :: r => (isR v = true ∧ isR w = true) ∧ (¬ rfo v = rfo w → jp t L r h) ∧ (rfo v = rfo w → nx L r h)
  | _ => False
theorem s_acne {E : Et} {pc t : Nat} {off : Int} (hd : decode E.cc pc = .ok (.if_acmp .ne off, 3)) (ht : (pc : Int) + off = (t : Int)) : Snd E pc (w_acne t) (pc + 3) := by
  intro X o nx jp K k1 k2 L st h hw
  unfold w_acne at hw
  split at hw
  · next w v r =>
    intro H locs cells slots ls h1 h2 h3 h4 h5
    obtain ⟨⟨e1, e2⟩, a, b⟩ := hw
    have := lv_acmp_ne o.1.1 o.1.2.1 (rx := rfo v) (ry := rfo w) (rest := r) hd ht (fun c => k2 _ _ _ _ (a c) H locs cells slots ls h1 h2 h3 h4 h5) (fun c => k1 _ _ _ (b c) H locs cells slots ls h1 h2 h3 h4 h5)
    rw [rf_rfo e1, rf_rfo e2] at this
    exact this
  · exact hw.elim
/-- a table of targets: from lo on, and the rest -/
def w_tsw (lo : Int) (ts : List Nat) (df : Nat) : Sm := fun _ _ _ _ jp _ L st h => match st with
  | .int x :: r => (∀ (i t : Nat), ts[i]? = some t → x.toInt = lo + i → jp t L r h) ∧ ((x.toInt < lo ∨ lo + ts.length ≤ x.toInt) → jp df L r h)
  | _ => False
theorem s_tsw {E : Et} {pc q df len : Nat} {dflt lo hi : Int} {offs : Array Int} {ts : List Nat} (hd : decode E.cc pc = .ok (.tableswitch dflt lo hi offs, len)) (hl : hi = lo + ts.length - 1) (hdf : (pc : Int) + dflt = (df : Int)) (ho : offs.toList.map (fun o => (pc : Int) + o) = ts.map (fun t : Nat => (t : Int))) : Snd E pc (w_tsw lo ts df) q := by
  intro X o nx jp K k1 k2 L st h hw
  unfold w_tsw at hw
  split at hw
  · next x r =>
    intro H locs cells slots ls h1 h2 h3 h4 h5
    by_cases c : x.toInt < lo ∨ hi < x.toInt
    · exact lv_tableOut o.1.1 o.1.2.1 hd c hdf (k2 _ _ _ _ (hw.2 (by omega)) H locs cells slots ls h1 h2 h3 h4 h5)
    · have hlt : (x.toInt - lo).toNat < ts.length := by omega
      have hlen : offs.toList.length = ts.length := by have := congrArg List.length ho; simpa using this
      have hi' : (x.toInt - lo).toNat < offs.toList.length := by omega
      have e1 : ts[(x.toInt - lo).toNat]? = some ts[(x.toInt - lo).toNat] := List.getElem?_eq_getElem hlt
      have e2 : offs.toList[(x.toInt - lo).toNat]? = some offs.toList[(x.toInt - lo).toNat] := List.getElem?_eq_getElem hi'
      have e3 : (pc : Int) + offs.toList[(x.toInt - lo).toNat] = (ts[(x.toInt - lo).toNat] : Int) := by
        have := congrArg (fun l => l[(x.toInt - lo).toNat]?) ho
        simp only [List.getElem?_map, e1, e2, Option.map_some, Option.some.injEq] at this
        exact this
      exact lv_tableIn o.1.1 o.1.2.1 hd (fun q => c (Or.inl q)) (fun q => c (Or.inr q)) (off := offs.toList[(x.toInt - lo).toNat]) (by rw [← Array.getElem?_toList]; exact e2) e3 (k2 _ _ _ _ (hw.1 _ _ e1 (by omega)) H locs cells slots ls h1 h2 h3 h4 h5)
  · exact hw.elim
/-! ends -/
theorem fin_MQ {X : Xt} {K : Outcome → AH → Prop} {h : AH} {o : Outcome} {cells slots : Nat} {t : State} (h4 : cells + X.n0 = h.n) (h5 : slots + X.z0 = h.z) (hk : K o h)
    (m : MQ X.below (fun _ _ o' t => o' = o ∧ HR X.G h t.heap) X.args X.s cells slots (fun q => X.G.b ≤ q) t) : QF X K t := by
  obtain ⟨o', a1, a2, ⟨a3, a4⟩, L, ⟨-, a5, a6⟩, a7⟩ := m
  subst a3
  exact ⟨o', a1, a2, a5, h, L, cells, slots, a4, hk, a6, a7, h4, h5⟩
def w_iret : Sm := fun _ _ _ _ _ K _ st h => match st with
  | [.int v] => K (.returned (some (.int v))) h
  | _ => False
def w_zret : Sm := fun _ _ _ _ _ K _ st h => match st with
  | [.int v] => (v = 0 ∨ v = 1) ∧ K (.returned (some (.int v))) h
  | _ => False
def w_lret : Sm := fun _ _ _ _ _ K _ st h => match st with
  | [.long v] => K (.returned (some (.long v))) h
  | _ => False
def w_aret : Sm := fun _ _ _ _ _ K _ st h => match st with
  | [v] => isR v = true ∧ K (.returned (some v)) h
  | _ => False
def w_vret : Sm := fun _ _ _ _ _ K _ st h => match st with
  | [] => K (.returned none) h
  | _ => False
theorem s_iret {E : Et} {pc q : Nat} (hd : decode E.cc pc = .ok (.ireturn, 1)) (hr : E.ret = some .int) : Snd E pc w_iret q := by
  intro X o nx jp K k1 k2 L st h hw
  unfold w_iret at hw
  split at hw
  · intro H locs cells slots ls h1 h2 h3 h4 h5
    exact (W.iret (Qc := fun _ _ o' t => o' = _ ∧ HR X.G h t.heap) (free := fun q => X.G.b ≤ q) o.1.1 o.1.2.1 (by rw [o.1.2.2.2.1]; exact hr) (fun t ht _ => ⟨rfl, by rw [ht]; exact h1⟩) h3 hd o.1.2.2.2.2.1).mono fun t m => fin_MQ h4 h5 hw m
  · exact hw.elim
theorem s_zret {E : Et} {pc q : Nat} (hd : decode E.cc pc = .ok (.ireturn, 1)) (hr : E.ret = some .boolean) : Snd E pc w_zret q := by
  intro X o nx jp K k1 k2 L st h hw
  unfold w_zret at hw
  split at hw
  · next v =>
    intro H locs cells slots ls h1 h2 h3 h4 h5
    exact (W.zret (Qc := fun _ _ o' t => o' = _ ∧ HR X.G h t.heap) (free := fun q => X.G.b ≤ q) o.1.1 o.1.2.1 (by rw [o.1.2.2.2.1]; exact hr) (by rcases hw.1 with e | e <;> subst e <;> rfl) (fun t ht _ => ⟨rfl, by rw [ht]; exact h1⟩) h3 hd o.1.2.2.2.2.1).mono fun t m => fin_MQ h4 h5 hw.2 m
  · exact hw.elim
theorem s_lret {E : Et} {pc q : Nat} (hd : decode E.cc pc = .ok (.lreturn, 1)) (hr : E.ret = some .long) : Snd E pc w_lret q := by
  intro X o nx jp K k1 k2 L st h hw
  unfold w_lret at hw
  split at hw
  · intro H locs cells slots ls h1 h2 h3 h4 h5
    exact (W.lret (Qc := fun _ _ o' t => o' = _ ∧ HR X.G h t.heap) (free := fun q => X.G.b ≤ q) o.1.1 o.1.2.1 (by rw [o.1.2.2.2.1]; exact hr) (fun t ht _ => ⟨rfl, by rw [ht]; exact h1⟩) h3 hd o.1.2.2.2.2.1).mono fun t m => fin_MQ h4 h5 hw m
  · exact hw.elim
theorem s_aret {E : Et} {pc q : Nat} {rt : FieldType} (hd : decode E.cc pc = .ok (.areturn, 1)) (hr : E.ret = some rt) (hrt : (∃ n, rt = .object n) ∨ ∃ t, rt = .array t) : Snd E pc w_aret q := by
  intro X o nx jp K k1 k2 L st h hw
  unfold w_aret at hw
  split at hw
  · next v =>
    intro H locs cells slots ls h1 h2 h3 h4 h5
    have hv : v = .null ∨ ∃ a, v = .ref a := by
      cases v with
      | null => exact Or.inl rfl
      | ref a => exact Or.inr ⟨a, rfl⟩
      | _ => exact absurd hw.1 Bool.false_ne_true
    exact (W.aret (Qc := fun _ _ o' t => o' = _ ∧ HR X.G h t.heap) (free := fun q => X.G.b ≤ q) o.1.1 o.1.2.1 (by rw [o.1.2.2.2.1]; exact hr) hrt hv (fun t ht _ => ⟨rfl, by rw [ht]; exact h1⟩) h3 hd o.1.2.2.2.2.1).mono fun t m => fin_MQ h4 h5 hw.2 m
  · exact hw.elim
theorem s_vret {E : Et} {pc q : Nat} (hd : decode E.cc pc = .ok (.return_, 1)) (hr : E.ret = none) : Snd E pc w_vret q := by
  intro X o nx jp K k1 k2 L st h hw
  unfold w_vret at hw
  split at hw
  · intro H locs cells slots ls h1 h2 h3 h4 h5
    exact (W.vret (Qc := fun _ _ o' t => o' = _ ∧ HR X.G h t.heap) (free := fun q => X.G.b ≤ q) o.1.1 o.1.2.1 (by rw [o.1.2.2.2.1]; exact hr) (fun t ht _ => ⟨rfl, by rw [ht]; exact h1⟩) h3 hd o.1.2.2.2.2.1).mono fun t m => fin_MQ h4 h5 hw m
  · exact hw.elim
/-- the method throws, where none of its handlers covers -/
def w_thr : Sm := fun _ _ _ _ _ K _ st h => match st with
  | .ref a :: _ => K (.threw a) h
  | _ => False
theorem s_thr {E : Et} {pc q : Nat} (hd : decode E.cc pc = .ok (.athrow, 1)) (hh : (tableOf E.hh).all (fun x => !covers x pc) = true) : Snd E pc w_thr q := by
  intro X o nx jp K k1 k2 L st h hw
  unfold w_thr at hw
  split at hw
  · next a r =>
    intro H locs cells slots ls h1 h2 h3 h4 h5
    intro T hT S
    obtain ⟨b1, b2, b3, b4, b5⟩ := S.athrowLeaves (g := F0 X.m pc ls (.ref a :: r)) o.1.1 rfl rfl rfl (outside_of_table o.2.1.2.2.2 hh) rfl (by rw [o.1.2.1]; exact hd) o.1.2.2.2.2.1
    exact ⟨_, b1, .threw a, b2, b3, b4, h, locs, cells, slots, by show HR X.G h T.heap; rw [hT]; exact h1, hw, b5, h3, h4, h5⟩
  · exact hw.elim
/-- Object's own constructor -/
def w_oinit : Sm := fun _ d _ nx _ _ L st h => match st with
  | .ref _ :: r => (1 ≤ d ∧ (r.map fun v => v.category).sum ≤ 24) ∧ nx L r h
  | _ => False
theorem s_oinit {E : Et} {pc i : Nat} (hd : decode E.cc pc = .ok (.invokespecial i, 3)) (h1 : Cond.methodLink E.y.cls i Lib.objectInit ∈ lw_all) (h2 : Cond.instanceMethod Lib.objectInit ∈ lw_all) (h3 : Cond.code Lib.objectInit ⟨#[0xb1]⟩ 1 none ∈ lw_all) : Snd E pc w_oinit (pc + 3) := by
  intro X o nx jp K k1 k2 L st h hw
  unfold w_oinit at hw
  split at hw
  · next a r =>
    obtain ⟨⟨b1, b2⟩, hw⟩ := hw
    intro H locs cells slots ls g1 g2 g3 g4 g5
    have hts := o.2.1.2.1
    have rr := o.2.2
    exact W.objInit o.1.1 o.1.2.1 o.2.1.1 (hts _ h1) (hts _ h2) (hts _ h3) rfl (g2.size) rfl hd (by omega) (by show 2 * 0 + _ + 12 ≤ _; omega) (k1 _ _ _ hw H locs cells slots ls g1 g2 g3 g4 g5)
  · exact hw.elim
