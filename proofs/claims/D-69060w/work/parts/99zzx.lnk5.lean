/-! a publication: link, whole -/
/-- what the reader's modules are -/
def GDm (m : Md) : Prop := gM m ∧ (mcs m).length ≤ 2048 ∧ (∀ u ∈ m.2.2.2.2.2, (∀ x ∈ ui u, gX m u x) ∧ (ui u).length ≤ 1024 ∧ 1 ≤ (ui u).length) ∧ (m.1 < 65536 ∧ m.2.1.length ≤ 32 ∧ m.2.2.1.length ≤ 32 ∧ m.2.2.2.1.length ≤ 32 ∧ m.2.2.2.2.1.length ≤ 32 ∧ m.2.2.2.2.2.length ≤ 64) ∧ (∀ s ∈ m.2.1, 1 ≤ s.2.2.length) ∧ (∀ s ∈ m.2.2.1, s.1 < 65536 ∧ s.2.1 < 256) ∧ ∀ c ∈ m.2.2.2.1, c.1 < 65536 ∧ c.2.1 < 256
theorem GDm.lb {m : Md} (g : GDm m) : lkB m := ⟨fun s hs => ⟨(g.2.2.2.2.2.1 s hs).1, by have := (g.2.2.2.2.2.1 s hs).2; omega⟩, fun s hs => ⟨(g.2.2.2.2.2.2 s hs).1, by have := (g.2.2.2.2.2.2 s hs).2; omega⟩⟩
/-- the first one that is not so -/
def ffl {α : Type} (p : α → Bool) (l : List α) : Option Nat := l.findIdx? fun x => !p x
theorem ffl_s {α : Type} {p : α → Bool} {l : List α} {k : Nat} {s : α} (hs : (l)[k]? = some s) (hp : p s = false) (ok : ∀ j s', j < k → (l)[j]? = some s' → p s' = true) : ffl p l = some k := by
  unfold ffl
  rw [List.findIdx?_eq_some_iff_getElem]
  obtain ⟨hk, e⟩ := List.getElem?_eq_some_iff.mp hs
  refine ⟨hk, by rw [e, hp]; rfl, fun j hj => ?_⟩
  rw [ok j _ hj (List.getElem?_eq_getElem (by omega))]
  decide
theorem ffl_n {α : Type} {p : α → Bool} {l : List α} (ok : ∀ s ∈ l, p s = true) : ffl p l = none := by
  unfold ffl
  rw [List.findIdx?_eq_none_iff]
  intro x hx
  rw [ok x hx]; rfl
/-- the fault that link finds, and the modules that it asks for -/
def vlk (W : Wd) (cm m : Md) : Option (Nat × Nat) × List Nat := match ffl (sok W cm) m.2.2.1 with
  | some k => (some (22, k), (m.2.2.1.take (k + 1)).map fun s => s.1)
  | none => (match ffl (fok W cm m) m.2.2.2.1 with
    | some k => (some (23, k), m.2.2.1.map (fun s => s.1) ++ (m.2.2.2.1.take (k + 1)).map fun s => s.1)
    | none => (none, m.2.2.1.map (fun s => s.1) ++ m.2.2.2.1.map fun s => s.1))
theorem lkE_a {env : Pc → Cn} {ns ns' : List Nat} {es : List En} : lkE env (ns ++ ns') es = lkE env ns' (lkE env ns es) := by
  unfold lkE; rw [List.foldl_append]
section
variable {G : Gt} {B d : Nat} {h0 : AH} {l0 : List Nat} {o0 : Lc} {MA0 : Ma} {es0 : List En} {dp0 : Nat → Nat} {wi W A q BA X tt lim SP DP M CM C CW ak g : Nat} {F : Nat → Fm} {snd : Int64} {K : Outcome → AH → Prop} {fs : Nat} {fx : Option Nat} {st : Lw} {Lf : Nat → Lw} {RN : Nat → Int32} {Wd' : Wd} {cm m : Md} {DA : Nat → Nat} {dw : Nat → Nat → Nat} {ms : List Nat} {bs : List Pc}
theorem link_ok (ls : LKS h0 A CM M DP C CW MA0 Wd' cm m DA dw) (wd : WRD h0 o0 A W BA tt MA0 fs st Lf RN) (hE : EVW Wd' (vew st Lf fs tt)) (hg : ∀ p, gss Lf fs tt p = none) (hak : ak ≤ 24) (hms : ∀ n m', Wd' n = some m' → n ≠ 0 → n ∈ ms) (hm8 : bs.length + ms.length ≤ 25) (gd : GDm m) (hb : smB m) (H : OPQ 0 fx G B h0 A W q BA X tt snd lim SP wi MA0 l0 o0 (0, F, es0, ak, g)) (dr : DPR h0 M DP dp0) (li : LKI (vew st Lf fs tt) ms bs es0) (hd : 54 ≤ d)
    (kf : ∀ e h' l' o' MA', (vlk Wd' cm m).1 = some e → PBA fx G B A W q BA X tt snd lim SP wi F ak g DP (sco Lf RN fs tt) h0 o0 MA0 es0.length h' l' o' MA' (lkE (vew st Lf fs tt) (vlk Wd' cm m).2 es0) → (h'.I 2709 X = nI e.2 ∧ h'.I 24 A = nI 4 ∧ h'.J 25 A = (nI e.1).toInt64) → (∃ dp, DPR h' M DP dp) → K (.threw SP) h')
    (kk : (vlk Wd' cm m).1 = none → ∀ h' l' o' MA', PBA fx G B A W q BA X tt snd lim SP wi F ak g DP (sco Lf RN fs tt) h0 o0 MA0 es0.length h' l' o' MA' (lkE (vew st Lf fs tt) (vlk Wd' cm m).2 es0) → DPR h' M DP (dpF m dw dp0 m.2.2.1.length) → LKI (vew st Lf fs tt) ms bs (lkE (vew st Lf fs tt) (vlk Wd' cm m).2 es0) → K (.returned none) h') : MW G d e_X1_link [.ref A, .ref M] h0 K := by
  refine st_X1_link fun XX oo hG hD _ => ?_
  subst hG; subst hD
  obtain ⟨⟨tM, rT⟩, -⟩ := id ls.1.2
  refine k_X1_link_0 oo ?_
  have p0 : PBA fx XX.G B A W q BA X tt snd lim SP wi F ak g DP (sco Lf RN fs tt) h0 o0 MA0 es0.length h0 l0 o0 MA0 es0 := ⟨OUL.refl, H, MAX.refl (by rw [List.length_map]; exact Nat.le_refl _), Nat.le_refl _⟩
  refine link_7 (dp0 := dp0) (ms := ms) (bs := bs) (es0 := es0) (dw := dw) oo ls wd hE hg hak hms hm8 gd.lb gd.1.1 (by omega) (fun k s hs hf ok h' l' o' MA' pb sp dq => ?_) (fun ok h l o MA l4 l5 l6 pb dq lq => ?_) m.2.2.1.length 0 h0 l0 o0 MA0 (by omega) p0 (by rw [dpF_0]; exact dr) (fun j s' hj _ => absurd hj (Nat.not_lt_zero _)) li _ _ _
  · have e : vlk Wd' cm m = (some (22, k), (m.2.2.1.take (k + 1)).map fun s => s.1) := by
      unfold vlk
      rw [ffl_s hs hf ok]
    have e1 : (vlk Wd' cm m).1 = some (22, k) := by rw [e]
    refine kf (22, k) h' l' o' MA' e1 (by rw [e]; exact pb) sp dq
  · refine k_X1_link_131 oo ?_
    have f7 := ffl_n ok
    have e0 : ∀ es, lkE (vew st Lf fs tt) ((m.2.2.2.1.take 0).map fun s => s.1) es = es := fun _ => rfl
    refine link_133 (es1 := lkE (vew st Lf fs tt) (m.2.2.1.map fun s => s.1) es0) (n0 := es0.length) (ms := ms) (bs := bs) (dp := dpF m dw dp0 m.2.2.1.length) oo ls wd hE hg hak hms hm8 gd.lb gd.1 hb (by omega) (fun k s hs hf ok h' l' o' MA' pb sp dq => ?_) (fun ok h l o MA pb dq lq => ?_) m.2.2.2.1.length 0 h l o MA (by omega) (by rw [e0]; exact pb) dq (fun j s' hj _ => absurd hj (Nat.not_lt_zero _)) (by rw [e0]; exact lq) _ _ _
    · have e : vlk Wd' cm m = (some (23, k), m.2.2.1.map (fun s => s.1) ++ (m.2.2.2.1.take (k + 1)).map fun s => s.1) := by
        unfold vlk
        rw [f7]
        simp only [ffl_s hs hf ok]
      have e1 : (vlk Wd' cm m).1 = some (23, k) := by rw [e]
      refine kf (23, k) h' l' o' MA' e1 (by rw [e, lkE_a]; exact pb) sp dq
    · have e : vlk Wd' cm m = (none, m.2.2.1.map (fun s => s.1) ++ m.2.2.2.1.map fun s => s.1) := by
        unfold vlk
        rw [f7]
        simp only [ffl_n ok]
      have e1 : (vlk Wd' cm m).1 = none := by rw [e]
      refine kk e1 h l o MA (by rw [e, lkE_a]; exact pb) dq (by rw [e, lkE_a]; exact lq)
end
