/-! the twin's values: trees by numbers, and who owns which -/
/-- how the twin tells a structure -/
def tn (k : Nat) (x : Int64 × Int64) : Int64 × Int64 := if k = 6 then (0, lN (256 * un x.1 + un x.2)) else x
def tnF : LF → LF
  | .leaf => .leaf
  | .inner k x u c r => .inner k (x.1, tn k x.2) u (tnF c) (tnF r)
theorem fad_tn : ∀ c : LF, fad (tnF c) = fad c
  | .leaf => rfl
  | .inner k x u c r => by
    show x.1 :: (fad (tnF c) ++ fad (tnF r)) = x.1 :: (fad c ++ fad r)
    rw [fad_tn c, fad_tn r]
theorem fsz_tn : ∀ c : LF, fsz (tnF c) = fsz c
  | .leaf => rfl
  | .inner k x u c r => by
    show 1 + fsz (tnF c) + fsz (tnF r) = 1 + fsz c + fsz r
    rw [fsz_tn c, fsz_tn r]
theorem fdp_tn : ∀ c : LF, fdp (tnF c) = fdp c
  | .leaf => rfl
  | .inner k x u c r => by
    show max (1 + fdp (tnF c)) (fdp (tnF r)) = max (1 + fdp c) (fdp r)
    rw [fdp_tn c, fdp_tn r]
theorem fln_tn : ∀ c : LF, fln (tnF c) = fln c
  | .leaf => rfl
  | .inner k x u c r => by
    simp only [tnF, fln]
    rw [fln_tn r]
theorem fbk_tn : ∀ {c : LF}, fbk c → fbk (tnF c)
  | .leaf, _ => trivial
  | .inner k x u c r, h => ⟨h.1, fbk_tn h.2.1, fbk_tn h.2.2⟩
theorem tnF_ap : ∀ a b : LF, tnF (fap a b) = fap (tnF a) (tnF b)
  | .leaf, b => rfl
  | .inner k x u c r, b => by
    show Std.DTreeMap.Internal.Impl.inner k (x.1, tn k x.2) u (tnF c) (tnF (fap r b)) = .inner k (x.1, tn k x.2) u (tnF c) (fap (tnF r) (tnF b))
    rw [tnF_ap r b]
theorem fat_tn : ∀ (c : LF) (i : Nat), fat (tnF c) i = fat c i
  | .leaf, i => by cases i <;> rfl
  | .inner k x u c r, i => by
    cases i with
    | zero => rfl
    | succ i => exact fat_tn r i
/-- kinds are small -/
def LVk (x : LV) : Prop := x.2.1 < 16 ∧ fbk x.2.2.2
theorem fbk_llo : ∀ {c : LF}, fbk c ↔ ∀ y ∈ llo c, y.2.1 < 128 ∧ fbk y.2.2.2
  | .leaf => ⟨fun _ y hy => by simp [llo] at hy, fun _ => trivial⟩
  | .inner k x u c r => by
    constructor
    · intro h y hy
      rcases List.mem_cons.mp (show y ∈ (x.1, k, x.2, c) :: llo r from hy) with e | e
      · rw [e]; exact ⟨h.1, h.2.1⟩
      · exact fbk_llo.mp h.2.2 y e
    · intro h
      have h1 := h (x.1, k, x.2, c) (show _ ∈ (x.1, k, x.2, c) :: llo r from List.mem_cons_self ..)
      exact ⟨h1.1, h1.2, fbk_llo.mpr fun y hy => h y (show _ ∈ (x.1, k, x.2, c) :: llo r from List.mem_cons_of_mem _ hy)⟩
theorem fbk_sub : ∀ {p : List Nat} {x y : LV}, x.2.1 < 128 ∧ fbk x.2.2.2 → lva x p = some y → y.2.1 < 128 ∧ fbk y.2.2.2
  | [], x, y, h, hy => by cases hy; exact h
  | i :: p, x, y, h, hy => by
    have hy : (match (llo x.2.2.2)[i]? with | some w => lva w p | none => none) = some y := hy
    cases ha : (llo x.2.2.2)[i]? with
    | none => rw [ha] at hy; cases hy
    | some a =>
      rw [ha] at hy
      exact fbk_sub (fbk_llo.mp h.2 a (List.mem_of_getElem? ha)) hy
theorem fbk_set : ∀ {p : List Nat} {x y w : LV}, x.2.1 < 128 ∧ fbk x.2.2.2 → lva x p = some y → w.2.1 < 128 ∧ fbk w.2.2.2 → (lvw x p w).2.1 < 128 ∧ fbk (lvw x p w).2.2.2
  | [], x, y, w, _, _, hw => hw
  | i :: p, x, y, w, h, hy, hw => by
    have hy : (match (llo x.2.2.2)[i]? with | some w => lva w p | none => none) = some y := hy
    cases ha : (llo x.2.2.2)[i]? with
    | none => rw [ha] at hy; cases hy
    | some a =>
      rw [ha] at hy
      rw [lvs_c ha]
      refine ⟨h.1, fbk_llo.mpr fun z hz => ?_⟩
      have hz : z ∈ llo (lof ((llo x.2.2.2).set i (lvw a p w))) := hz
      rw [llo_lof] at hz
      rcases List.mem_or_eq_of_mem_set hz with e | e
      · exact fbk_llo.mp h.2 z e
      · rw [e]; exact fbk_set (fbk_llo.mp h.2 a (List.mem_of_getElem? ha)) hy hw
def TVL (h : AH) (T : Nat) (x : LV) : Prop := TW h T x.1 x.2.1 (tn x.2.1 x.2.2.1) (tnF x.2.2.2)
theorem TF.at {h : AH} {T : Nat} : ∀ {c : LF} {p : Int32} {i : Nat} {y : LV}, TF h T (tnF c) p → (llo c)[i]? = some y → TVL h T y
  | .leaf, p, i, y, _, hy => by simp [llo] at hy
  | .inner k x u c n, p, i, y, hr, hy => by
    obtain ⟨⟨e1, e2⟩, e3, e4, e5, e6, e7⟩ := hr
    cases i with
    | zero => cases hy; exact ⟨e2, e3, e4, e5, e6⟩
    | succ i => exact TF.at e7 hy
theorem TVL.sub {h : AH} {T : Nat} : ∀ {p : List Nat} {x y : LV}, TVL h T x → lva x p = some y → TVL h T y
  | [], x, y, hr, hy => by cases hy; exact hr
  | i :: p, x, y, hr, hy => by
    have hy : (match (llo x.2.2.2)[i]? with | some w => lva w p | none => none) = some y := hy
    cases ha : (llo x.2.2.2)[i]? with
    | none => rw [ha] at hy; cases hy
    | some a =>
      rw [ha] at hy
      exact TVL.sub (TF.at hr.2.2.2.2 ha) hy
theorem TVL.tu {T : Nat} {O : Nat → Prop} {h h' : AH} {x : LV} (q : TU T O h h') (r : TVL h T x) (hp : ∀ b ∈ adr x, ¬ O b) : TVL h' T x := TW.tu q r (fun b hb => hp b (by rw [fad_tn] at hb; exact hb))
theorem TF.set {T : Nat} {O : Nat → Prop} {h h' : AH} (q : TU T O h h') : ∀ {c : LF} {p : Int32} {i : Nat} {y b : LV}, TF h T (tnF c) p → (llo c)[i]? = some y → b.1 = y.1 → TVL h' T b → h'.EI 1696 (T + 5) y.1 = h.EI 1696 (T + 5) y.1 → (fad c).Nodup → (∀ a, a ∈ fad c → a ∉ adr y → ¬ O a) → TF h' T (tnF (lof ((llo c).set i b))) p
  | .leaf, p, i, y, b, _, hy, _, _, _, _, _ => by simp [llo] at hy
  | .inner k x u c n, p, i, y, b, hr, hy, hb, hv, hn, hd, hP => by
    obtain ⟨⟨e1, e2⟩, e3, e4, e5, e6, e7⟩ := hr
    have hd : (x.1 :: (fad c ++ fad n)).Nodup := hd
    simp only [List.nodup_cons, List.nodup_append, List.mem_append] at hd
    cases i with
    | zero =>
      have hy : some (x.1, k, x.2, c) = some y := hy
      cases hy
      show TF h' T (tnF (.inner b.2.1 (b.1, b.2.2.1) () b.2.2.2 (lof (llo n)))) p
      rw [lof_llo]
      obtain ⟨g1, g2, g3, g4, g5⟩ := hv
      have hb : b.1 = x.1 := hb
      refine ⟨⟨by rw [e1]; show nI x.1 = nI b.1; rw [hb], g1⟩, g2, g3, g4, g5, ?_⟩
      show TF h' T (tnF n) (h'.EI 1696 (T + 5) b.1)
      rw [hb]
      have hn : h'.EI 1696 (T + 5) x.1 = h.EI 1696 (T + 5) x.1 := hn
      rw [hn]
      refine TF.tu q e7 fun a ha => hP a ?_ ?_
      · rw [fad_tn] at ha
        show a ∈ x.1 :: (fad c ++ fad n)
        simp [ha]
      · rw [fad_tn] at ha
        show a ∉ x.1 :: fad c
        rw [List.mem_cons]
        rintro (z | z)
        · exact hd.1 (Or.inr (z ▸ ha))
        · exact hd.2.2.2 a z a ha rfl
    | succ i =>
      have hy : (llo n)[i]? = some y := hy
      have hyn : ∀ a ∈ adr y, a ∈ fad n := fun a ha => by rw [fad_llo]; exact List.mem_flatMap.mpr ⟨y, List.mem_of_getElem? hy, ha⟩
      obtain ⟨a1, a2, a3, a4, a5⟩ := q.2 x.1 (hP x.1 (by show x.1 ∈ x.1 :: _; simp) (fun z => hd.1 (Or.inr (hyn _ z))))
      show TF h' T (tnF (.inner k (x.1, x.2) () c (lof ((llo n).set i b)))) p
      refine ⟨⟨e1, e2⟩, a1.trans e3, a2.trans e4, a3.trans e5, ?_, ?_⟩
      · show TF h' T (tnF c) (h'.EI 1680 (T + 4) x.1)
        rw [a4]
        exact TF.tu q e6 fun a ha => hP a (by rw [fad_tn] at ha; show a ∈ x.1 :: (fad c ++ fad n); simp [ha]) (fun z => by rw [fad_tn] at ha; exact hd.2.2.2 a ha a (hyn a z) rfl)
      · show TF h' T (tnF (lof ((llo n).set i b))) (h'.EI 1696 (T + 5) x.1)
        rw [a5]
        exact TF.set q e7 hy hb hv hn hd.2.2.1 fun a ha hz => hP a (by show a ∈ x.1 :: (fad c ++ fad n); simp [ha]) hz
theorem TVL.set {T : Nat} {O : Nat → Prop} {h h' : AH} (q : TU T O h h') : ∀ {p : List Nat} {x y w : LV}, TVL h T x → lva x p = some y → w.1 = y.1 → TVL h' T w → h'.EI 1696 (T + 5) y.1 = h.EI 1696 (T + 5) y.1 → (adr x).Nodup → (∀ a, a ∈ adr x → a ∉ adr y → ¬ O a) → TVL h' T (lvw x p w)
  | [], x, y, w, hr, hy, hw, hv, hn, hd, hP => by cases hy; exact hv
  | i :: p, x, y, w, hr, hy, hw, hv, hn, hd, hP => by
    have hy : (match (llo x.2.2.2)[i]? with | some w => lva w p | none => none) = some y := hy
    cases ha : (llo x.2.2.2)[i]? with
    | none => rw [ha] at hy; cases hy
    | some a =>
      rw [ha] at hy
      have ra := TF.at hr.2.2.2.2 ha
      have hd' : (x.1 :: fad x.2.2.2).Nodup := hd
      rw [List.nodup_cons] at hd'
      have ain : ∀ z ∈ adr a, z ∈ fad x.2.2.2 := fun z hz => by rw [fad_llo]; exact List.mem_flatMap.mpr ⟨a, List.mem_of_getElem? ha, hz⟩
      have yin := adr_in hy
      have nda : (adr a).Nodup := by
        have := hd'.2
        rw [fad_llo] at this
        obtain ⟨u1, u2, e1, -⟩ := fm_set (f := adr) (y := a) ha
        rw [e1] at this
        exact (List.nodup_append.mp (List.nodup_append.mp this).2.1).1
      have rs := TVL.set q ra hy hw hv hn nda fun z hz hz2 => hP z (by show z ∈ x.1 :: _; exact List.mem_cons_of_mem _ (ain z hz)) hz2
      rw [lvs_c ha]
      obtain ⟨g1, g2, g3, g4, g5⟩ := hr
      obtain ⟨a1, a2, a3, a4, a5⟩ := q.2 x.1 (hP x.1 (by show x.1 ∈ x.1 :: _; simp) (fun z => hd'.1 (ain _ (yin _ z))))
      refine ⟨g1, a1.trans g2, a2.trans g3, a3.trans g4, ?_⟩
      show TF h' T (tnF (lof ((llo x.2.2.2).set i (lvw a p w)))) (h'.EI 1680 (T + 4) x.1)
      rw [a4]
      refine TF.set q g5 ha (lvs_1 hy hw) rs ?_ hd'.2 fun z hz hz2 => hP z (List.mem_cons_of_mem _ hz) (fun z3 => hz2 (yin z z3))
      by_cases c : y.1 = a.1
      · rw [← c]; exact hn
      · refine (q.2 a.1 (hP _ (List.mem_cons_of_mem _ (ain _ (by show a.1 ∈ a.1 :: _; simp))) (fun z => ?_))).2.2.2.2
        cases p with
        | nil => cases hy; exact c rfl
        | cons i' p =>
          have hy : (match (llo a.2.2.2)[i']? with | some w => lva w p | none => none) = some y := hy
          cases hb : (llo a.2.2.2)[i']? with
          | none => rw [hb] at hy; cases hy
          | some b =>
            rw [hb] at hy
            have : a.1 ∈ fad a.2.2.2 := by rw [fad_llo]; exact List.mem_flatMap.mpr ⟨b, List.mem_of_getElem? hb, adr_in hy _ z⟩
            have nda' : (a.1 :: fad a.2.2.2).Nodup := nda
            exact (List.nodup_cons.mp nda').1 this
/-- all values of the twin's that are owned -/
def TH (h : AH) (T n : Nat) (o : Lc) : Prop := (ST h T ∧ h.I 2949 T = nI n ∧ n ≤ 24576) ∧ DJ o ∧ ∀ p x, o p = some x → TVL h T x ∧ (∀ a ∈ adr x, a < n) ∧ x.2.1 < 128 ∧ fbk x.2.2.2
section
variable {G : Gt} {d T n : Nat} {h : AH} {o : Lc} {K : Outcome → AH → Prop}
/-- a part of an owned value becomes another one -/
theorem TH.same {h' : AH} {p : Sl} {x y w : LV} {pa : List Nat} {O : Nat → Prop} (v : TH h T n o) (hp : o p = some x) (hy : lva x pa = some y) (hw : w.1 = y.1) (q : TU T O h h') (hz : h'.I 2949 T = h.I 2949 T) (hO : ∀ a, O a → a ∈ adr y) (hnw : (adr w).Nodup) (haw : ∀ a ∈ adr w, a ∈ adr y) (hr : TVL h' T w) (hk : w.2.1 < 128 ∧ fbk w.2.2.2) (hx : h'.EI 1696 (T + 5) y.1 = h.EI 1696 (T + 5) y.1) : TH h' T n (uO o p (some (lvw x pa w))) := by
  obtain ⟨⟨v1, v2, v3⟩, v4, v5⟩ := v
  obtain ⟨g1, g2, g3⟩ := v5 p x hp
  have yin := adr_in hy
  have ndx := v4.1 p x hp
  obtain ⟨s1, s2⟩ := adr_nd (w := w) hy ndx hnw fun a ha => Or.inl (haw a ha)
  have sx : ∀ a ∈ adr (lvw x pa w), a ∈ adr x := fun a ha => by
    rcases (s2 a).mp ha with z | z
    · exact z.1
    · exact yin a (haw a z)
  refine ⟨⟨v1.fs q.1.1 rfl, by rw [hz]; exact v2, v3⟩, v4.put s1 fun u c hu hc a ha ha2 => v4.2 u p c x hu hc hp a ha2 (sx a ha), fun u c hc => ?_⟩
  by_cases e : u = p
  · rw [e, uO_s] at hc
    cases hc
    exact ⟨TVL.set q g1 hy hw hr hx ndx fun a ha hay z => hay (hO a z), fun a ha => g2 a (sx a ha), fbk_set g3 hy hk⟩
  · rw [uO_n e] at hc
    obtain ⟨c1, c2, c3⟩ := v5 u c hc
    exact ⟨c1.tu q fun b hb z => v4.2 u p c x e hc hp b hb (yin b (hO b z)), c2, c3⟩
/-- a new value -/
theorem TH.new {h' : AH} {p : Sl} {w : LV} {n' : Nat} {O : Nat → Prop} (v : TH h T n o) (hp : o p = none) (q : TU T O h h') (hO : ∀ a, O a → n ≤ a) (hz : h'.I 2949 T = nI n') (hn : n ≤ n' ∧ n' ≤ 24576) (hr : TVL h' T w) (hk : w.2.1 < 128 ∧ fbk w.2.2.2) (hnw : (adr w).Nodup) (haw : ∀ a ∈ adr w, n ≤ a ∧ a < n') : TH h' T n' (uO o p (some w)) := by
  obtain ⟨⟨v1, v2, v3⟩, v4, v5⟩ := v
  refine ⟨⟨v1.fs q.1.1 rfl, hz, hn.2⟩, v4.put hnw fun u c hu hc a ha ha2 => by have := (v5 u c hc).2.1 a ha2; have := haw a ha; omega, fun u c hc => ?_⟩
  by_cases e : u = p
  · rw [e, uO_s] at hc
    cases hc
    exact ⟨hr, fun a ha => (haw a ha).2, hk⟩
  · rw [uO_n e] at hc
    obtain ⟨c1, c2, c3⟩ := v5 u c hc
    exact ⟨c1.tu q fun b hb z => by have := c2 b hb; have := hO b z; omega, fun a ha => by have := c2 a ha; omega, c3⟩
theorem TH.del {p : Sl} (v : TH h T n o) : TH h T n (uO o p none) := by
  obtain ⟨v1, v4, v5⟩ := v
  refine ⟨v1, v4.del p, fun u c hc => ?_⟩
  by_cases e : u = p
  · rw [e, uO_s] at hc; cases hc
  · rw [uO_n e] at hc; exact v5 u c hc
theorem TH.mov {p q : Sl} {x : LV} (v : TH h T n o) (hp : o p = some x) : TH h T n (uO (uO o p none) q (some x)) := by
  obtain ⟨v1, v4, v5⟩ := v
  refine ⟨v1, v4.mov hp, fun u c hc => ?_⟩
  by_cases e : u = q
  · rw [e, uO_s] at hc
    cases hc
    exact v5 p x hp
  · rw [uO_n e] at hc
    by_cases e2 : u = p
    · rw [e2, uO_s] at hc; cases hc
    · rw [uO_n e2] at hc; exact v5 u c hc
/-- other fields -/
theorem TH.fr {P : Nat → Nat → Prop} {h' : AH} (q : Fr P h h') (np : ∀ f a, ([2944, 2945, 2946, 2947, 2948] ++ tFl).contains f = true → ¬ P f a) (v : TH h T n o) : TH h' T n o := by
  obtain ⟨⟨v1, v2, v3⟩, v4, v5⟩ := v
  have st : ST h' T := v1.fr q (fun f hf => np f T (by rcases hf with e | e | e | e | e <;> (rw [e]; rfl)))
  have n2 : ∀ f a, tFl.contains f = true → ¬ P f a := fun f a hf => np f a (by rw [List.contains_iff_mem] at hf ⊢; exact List.mem_append_right _ hf)
  refine ⟨⟨st, by rw [q.I (n2 _ _ rfl)]; exact v2, v3⟩, v4, fun u c hc => ?_⟩
  obtain ⟨c1, c2, c3⟩ := v5 u c hc
  refine ⟨?_, c2, c3⟩
  have tf : ∀ {g : LF} {p : Int32}, TF h T g p → TF h' T g p := fun {g} => by
    induction g with
    | leaf => exact fun r => r
    | inner k x u c r ihc ihr =>
      intro p hr
      obtain ⟨e1, e2, e3, e4, e5, e6⟩ := hr
      exact ⟨e1, by rw [q.EI (n2 _ _ rfl)]; exact e2, by rw [q.EJ (n2 _ _ rfl)]; exact e3, by rw [q.EJ (n2 _ _ rfl)]; exact e4, by rw [q.EI (n2 _ _ rfl)]; exact ihc e5, by rw [q.EI (n2 _ _ rfl)]; exact ihr e6⟩
  obtain ⟨d1, d2, d3, d4, d5⟩ := c1
  exact ⟨d1, by rw [q.EI (n2 _ _ rfl)]; exact d2, by rw [q.EJ (n2 _ _ rfl)]; exact d3, by rw [q.EJ (n2 _ _ rfl)]; exact d4, by rw [q.EI (n2 _ _ rfl)]; exact tf d5⟩
end
