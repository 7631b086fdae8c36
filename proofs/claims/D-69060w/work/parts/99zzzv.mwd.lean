/-! the modules in the heap: those of transactions, spares, the coin's, those that were published -/
abbrev By : Type := Nat × (Nat → Nat)
/-- where modules lie, which are transactions', which were published, how many spares were taken, the spares, the checker, its exception -/
abbrev Mw : Type := (Nat → Nat) × (Nat → Nat) × (Nat → Nat) × Nat × Nat × Nat × Nat
def MMS (h : AH) (mA : Nat → Nat) : Prop := ∀ i, i < 41 → ((h.tag (mA i) = some (1, 0) ∧ h.R 128 (mA i) = some (mA i + 1)) ∧ h.R 129 (mA i) = some (mA i + 525) ∧ h.tag (mA i + 525) = some (177, 2048)) ∧ STb h (mA i + 1) ∧ ∃ dp, DPR h (mA i) (mA i + 526) dp
def MAP (mA : Nat → Nat) : Prop := ∀ i j, i < 41 → j < 41 → i ≠ j → mA i + 527 ≤ mA j ∨ mA j + 527 ≤ mA i
/-- bytes of a module -/
def BYR (h : AH) (M : Nat) (b : By) : Prop := h.I 130 M = nI b.1 ∧ b.1 ≤ 2048 ∧ (∀ i, b.2 i < 256) ∧ ∀ i, i < b.1 → h.EI 177 (M + 525) i &&& nI 255 = nI (b.2 i)
theorem BYR.fr {P : Nat → Nat → Prop} {h h' : AH} {M : Nat} {b : By} (q : Fr P h h') (np : ∀ f a, [130, 10000 + 177].contains f = true → ¬ P f a) (s : BYR h M b) : BYR h' M b := ⟨by rw [q.I (np _ _ rfl)]; exact s.1, s.2.1, s.2.2.1, fun i hi => by rw [q.EI (np _ _ rfl)]; exact s.2.2.2 i hi⟩
/-- a transaction that publishes -/
def TPB (h : AH) (X M : Nat) (b : By) : Prop := BYR h M b ∧ TXP h X M b.1 (rdi b.1 b.2) ∧ ∀ m, rdi b.1 b.2 = .ok m → MDR h M m
def MWD (h : AH) (c : Cy) (mw : Mw) (Wb BT : Nat → By) (f ct : Nat) (dx : Nat → Nat → Nat) : Prop := (MMS h mw.1 ∧ MAP mw.1) ∧
  (h.I 32 (yA c.1) = nI mw.2.2.2.1 ∧ h.R 31 (yA c.1) = some mw.2.2.2.2.1 ∧ h.tag mw.2.2.2.2.1 = some (152, 8) ∧ (∀ j, j < 8 → h.ER 152 mw.2.2.2.2.1 j = some (mw.1 (32 + j))) ∧ mw.2.2.2.1 ≤ 8) ∧
  ((∀ k, k < 32 → mw.2.1 k < 32 + mw.2.2.2.1 ∧ h.R 2698 (yX c.1 k) = some (mw.1 (mw.2.1 k)) ∧ ∀ k', k' < 32 → k ≠ k' → mw.2.1 k ≠ mw.2.1 k') ∧ yC c.1 = mw.1 40 ∧ c.2.1.1 0 = mw.1 40 ∧ ∀ n m, c.2.2.1 n = some m → n ≠ 0 → mw.2.2.1 n < 32 + mw.2.2.2.1 ∧ c.2.1.1 n = mw.1 (mw.2.2.1 n) ∧ (∀ k, k < 32 → mw.2.1 k ≠ mw.2.2.1 n) ∧ ∀ n' m', c.2.2.1 n' = some m' → n' ≠ 0 → n ≠ n' → mw.2.2.1 n ≠ mw.2.2.1 n') ∧
  ((∀ n m, c.2.2.1 n = some m → n ≠ 0 → BYR h (mw.1 (mw.2.2.1 n)) (Wb n) ∧ rdi (Wb n).1 (Wb n).2 = .ok m ∧ DPR h (mw.1 (mw.2.2.1 n)) (mw.1 (mw.2.2.1 n) + 526) (dx n)) ∧ DPR h (mw.1 40) (mw.1 40 + 526) (dx 0)) ∧
  (∀ k, k < 32 → f ≤ k → k < ct → c.2.2.2.2 k = true → TPB h (yX c.1 k) (mw.1 (mw.2.1 k)) (BT k)) ∧
  (h.R 14 (yA c.1) = some mw.2.2.2.2.2.1 ∧ SCk h mw.2.2.2.2.2.1 mw.2.2.2.2.2.2 ∧ h.tag mw.2.2.2.2.2.2 = some (31, 0))
def mwdF : List Nat := [129, 131, 130, 10000 + 177, 31, 10000 + 152, 14, 2699, 2700] ++ mdlF ++ scF
theorem TXP.fr2 {P : Nat → Nat → Prop} {h h' : AH} {X M n : Nat} {r : Except (Nat × Nat) Md} (u : Fr P h h') (np : ∀ f a, [130, 2699, 2700].contains f = true → ¬ P f a) (em : h'.R 2698 X = h.R 2698 X) (s : TXP h X M n r) : TXP h' X M n r := by
  obtain ⟨⟨a, b, c, d⟩, e⟩ := s
  refine ⟨⟨by rw [em]; exact a, u.tag b, by rw [u.I (np _ _ rfl)]; exact c, d⟩, ?_⟩
  cases r with
  | error x => exact ⟨e.1, by rw [u.I (np _ _ rfl)]; exact e.2.1, by rw [u.I (np _ _ rfl)]; exact e.2.2⟩
  | ok x => show h'.I _ _ = _; rw [u.I (np _ _ rfl)]; exact e
theorem TPB.fr {P : Nat → Nat → Prop} {h h' : AH} {X M : Nat} {b : By} (u : Fr P h h') (np : ∀ f a, mwdF.contains f = true → ¬ P f a) (em : h'.R 2698 X = h.R 2698 X) (s : TPB h X M b) : TPB h' X M b := by
  have sub : ∀ l' : List Nat, l'.all (fun f => mwdF.contains f) = true → ∀ f a, l'.contains f = true → ¬ P f a := fun l' hl f a hf => np f a (by rw [List.all_eq_true] at hl; exact hl f (List.contains_iff_mem.mp hf))
  exact ⟨s.1.fr u (sub _ (by decide)), s.2.1.fr2 u (sub _ (by decide)) em, fun m hm => (s.2.2 m hm).fr u (sub mdlF (by decide))⟩
/-- where nothing of it is written -/
theorem MWD.fr {P : Nat → Nat → Prop} {h h' : AH} {c : Cy} {mw : Mw} {Wb BT : Nat → By} {f f' ct : Nat} {dx : Nat → Nat → Nat} (u : Fr P h h') (np : ∀ f a, mwdF.contains f = true → ¬ P f a) (nd : ∀ a, ¬ P (10000 + 192) a) (em : ∀ k, k < 32 → h'.R 2698 (yX c.1 k) = h.R 2698 (yX c.1 k)) (es : h'.I 32 (yA c.1) = h.I 32 (yA c.1)) (hf : f ≤ f') (s : MWD h c mw Wb BT f ct dx) : MWD h' c mw Wb BT f' ct dx := by
  have sub : ∀ l' : List Nat, l'.all (fun f => mwdF.contains f) = true → ∀ f a, l'.contains f = true → ¬ P f a := fun l' hl f a hf => np f a (by rw [List.all_eq_true] at hl; exact hl f (List.contains_iff_mem.mp hf))
  obtain ⟨⟨a1, a2⟩, ⟨b1, b2, b3, b4, b5⟩, ⟨c1, c2⟩, ⟨d1, d2⟩, e, ⟨f1, f2, f3⟩⟩ := s
  refine ⟨⟨fun i hi => ?_, a2⟩, ⟨by rw [es]; exact b1, by rw [u.R (np _ _ rfl)]; exact b2, u.tag b3, fun j hj => by rw [u.ER (np _ _ rfl)]; exact b4 j hj, b5⟩, ⟨fun k hk => ⟨(c1 k hk).1, by rw [em k hk]; exact (c1 k hk).2.1, (c1 k hk).2.2⟩, c2⟩, ⟨fun n m hm h0 => ?_, d2.ou u (np _ _ rfl) (nd _)⟩, fun k k1 k2 k3 k4 => (e k k1 (by omega) k3 k4).fr u np (em k k1), by rw [u.R (np _ _ rfl)]; exact f1, f2.fr u (sub scF (by decide)), u.tag f3⟩
  · obtain ⟨⟨⟨x1, x2⟩, x3, x4⟩, x5, dp, x6⟩ := a1 i hi
    exact ⟨⟨⟨u.tag x1, by rw [u.R (np _ _ rfl)]; exact x2⟩, by rw [u.R (np _ _ rfl)]; exact x3, u.tag x4⟩, x5.fr u (sub stF (by decide)), dp, x6.ou u (np _ _ rfl) (nd _)⟩
  · obtain ⟨x1, x2, x3⟩ := d1 n m hm h0
    exact ⟨x1.fr u (sub _ (by decide)), x2, x3.ou u (np _ _ rfl) (nd _)⟩
section
variable {c : Cy} {n B : Nat} {G : Gt} {g : Gg} {h : AH} {l : List Nat} {o : Lc} {st : Lw} {mw : Mw} {Wb BT : Nat → By} {f ct : Nat} {dx dw : Nat → Nat → Nat} {cm m : Md} {ms : List Nat}
theorem MAP.inj {mA : Nat → Nat} (a : MAP mA) {i j : Nat} (hi : i < 41) (hj : j < 41) (h : mA i = mA j) : i = j := Classical.byContradiction fun q => by
  have := a i j hi hj q
  omega
/-- a module's address by its number, changed at one -/
def mau (MA : Ma) (k M : Nat) : Ma := (fun n => if n = k then M else MA.1 n, fun q => if q.1 = k then M + 141 + 4 * q.2 else MA.2.1 q, MA.2.2)
theorem EtR.mx {cc i E n : Nat} {MA MA' : Ma} {ls : Lw} (e : ∀ x ∈ ls, x.1.1 = 2 → MA'.1 (un x.1.2.1) = MA.1 (un x.1.2.1)) (s : EtR h o cc i E n MA ls) : EtR h o cc i E n MA' ls := by
  obtain ⟨s1, s2, s3⟩ := s
  exact ⟨s1, fun e' x hx => by
    obtain ⟨a, ⟨b1, b2⟩, c⟩ := s2 e' x hx
    exact ⟨a, ⟨b1, fun u1 u2 => by rw [e x (List.mem_of_getElem? hx) u1]; exact b2 u1 u2⟩, c⟩, s3⟩
theorem MST.uw {W : Wd} (s : MST W st ms) {x : Pc × Cn × Bool} (hx : x ∈ st) (k2 : x.1.1 = 2) : ∃ m, W (un x.1.2.1) = some m := by
  have : x.1 ∈ k2s st := List.mem_filter.mpr ⟨List.mem_map.mpr ⟨x, hx, rfl⟩, by rw [k2]; rfl⟩
  obtain ⟨n, n1, n2⟩ := (s.2.2.2 x.1).mp this
  have n16 := s.2.2.1 n n1
  rw [n2]
  show ∃ m, W (un (lN n)) = some m
  rw [un_l (by omega)]
  exact ((s.2.1 n).mp n1).2
/-- other addresses where no module is -/
theorem CML.ma {k M : Nat} (r : CML c n G B st g h l o) (hL : ∀ k, k < 32 → xL g k = []) (ms' : MST c.2.2.1 st ms) (hk : c.2.2.1 k = none) : CML (c.1, mau c.2.1 k M, c.2.2) n G B st g h l o := by
  obtain ⟨⟨⟨a1, a2, ⟨a3, a4, a5⟩, a6⟩, r1⟩, r2, r3, r4, r5, r6, r7, r8⟩ := r
  have ne : ∀ n m, c.2.2.1 n = some m → n ≠ k := fun n m hm e => by rw [e, hk] at hm; cases hm
  refine ⟨⟨⟨a1, a2, ⟨⟨a3.1, fun n m' hm => ?_⟩, a4, a5⟩, a6⟩, r1⟩, fun k' hk' => ?_, fun j hj => ?_, r4.mx fun x hx k2 => ?_, r5, r6, r7, r8⟩
  · obtain ⟨x1, x2, x3, x4⟩ := a3.2 n m' hm
    have e : (mau c.2.1 k M).1 n = c.2.1.1 n := if_neg (ne n m' hm)
    show MDR h ((mau c.2.1 k M).1 n) m' ∧ (∀ k', (mau c.2.1 k M).2.1 (n, k') = (mau c.2.1 k M).1 n + 141 + 4 * k') ∧ (n ≠ 0 → (mau c.2.1 k M).1 n ≠ yC c.1) ∧ _
    rw [e]
    exact ⟨x1, fun k' => (if_neg (ne n m' hm)).trans (x2 k'), x3, x4⟩
  · obtain ⟨y1, y2, y3, y4⟩ := r2 k' hk'
    refine ⟨y1, y2, ?_, y4⟩
    rw [hL k' hk'] at y3 ⊢
    exact y3.mx fun x hx _ => by simp at hx
  · obtain ⟨⟨y1, y2, y3⟩, y4⟩ := r3 j hj
    exact ⟨⟨y1, y2, fun q => absurd (y4 ▸ q) (by decide)⟩, y4⟩
  · obtain ⟨m, hm⟩ := ms'.uw hx k2
    exact if_neg (ne _ m hm)
theorem MWD.ma {k M : Nat} (k0 : k ≠ 0) (hk : c.2.2.1 k = none) (s : MWD h c mw Wb BT f ct dx) : MWD h (c.1, mau c.2.1 k M, c.2.2) mw Wb BT f ct dx := by
  have ne : ∀ n m, c.2.2.1 n = some m → n ≠ k := fun n m hm e => by rw [e, hk] at hm; cases hm
  obtain ⟨a, b, ⟨c1, c2, c3, c4⟩, d⟩ := s
  refine ⟨a, b, ⟨c1, c2, (if_neg (fun e => k0 e.symm)).trans c3, fun n m hm h0 => ?_⟩, d⟩
  obtain ⟨x1, x2, x3⟩ := c4 n m hm h0
  exact ⟨x1, (if_neg (ne n m hm)).trans x2, x3⟩
/-- the publication f -/
def pvf (c : Cy) (mw : Mw) (BT : Nat → By) (cm : Md) (dx : Nat → Nat → Nat) (f : Nat) : Pv := ((mw.1 (mw.2.1 f), mw.1 (mw.2.1 f) + 526, mw.2.2.2.2.2.1, mw.2.2.2.2.2.2, (BT f).1), rdi (BT f).1 (BT f).2, cm, (fun n => (if n = 0 then yC c.1 else c.2.1.1 n) + 526), dx)
theorem MWD.pub (s : MWD h c mw Wb BT f ct dx) (sx : GSX c n G h) (wk : WOK c.2.2.1 cm dw) (ag : AGD c.2.2.1 dx dw) (hf : f < 32) (hct : f < ct) (hp : c.2.2.2.2 f = true) : PUB c (zpu c st f n (pvf c mw BT cm dx f)) (pvf c mw BT cm dx f) h := by
  obtain ⟨⟨a1, a2⟩, ⟨b1, b2, b3, b4, b5⟩, ⟨c1, c2, c3, c4⟩, ⟨d1, d2⟩, e, ⟨f1, f2, f3⟩⟩ := s
  obtain ⟨e1, e2, e3⟩ := e f hf (Nat.le_refl _) hct hp
  obtain ⟨t1, t2, t3⟩ := c1 f hf
  refine ⟨e2, (a1 (mw.2.1 f) (by omega)).2.2, fun m hm => ⟨⟨sx.2.2.1.1.1, e3 m hm⟩, fun n m' hm' => ?_, f1, f2, f3⟩⟩
  obtain ⟨w1, w2, w3, w4, w5, w6, w7⟩ := wk
  have hm' : c.2.2.1 n = some m' := by
    unfold mof at hm'
    by_cases n0 : n = 0
    · rw [if_pos n0] at hm'; rw [n0, w2]; exact hm'
    · rw [if_neg n0] at hm'; exact hm'
  have md := (sx.2.2.1.1.2 n m' hm').1
  have ea : (if n = 0 then yC c.1 else c.2.1.1 n) = c.2.1.1 n := by
    split
    · rename_i n0; rw [n0, c3, c2]
    · rfl
  have d24 : ∀ k, k < m'.2.1.length → dx n k ≤ 24 := fun k hk => by
    rw [ag n m' hm' k hk]
    exact ((w5 n m' hm').1 k _ (List.getElem?_eq_getElem hk)).1
  refine ⟨by rw [ea]; exact md, ?_, ?_, d24, (w1.2 n m' hm').2.1, w7 n m' hm'⟩
  · rw [ea]
    show DPR h (c.2.1.1 n) ((if n = 0 then yC c.1 else c.2.1.1 n) + 526) (dx n)
    rw [ea]
    by_cases n0 : n = 0
    · rw [n0, c3]; exact d2
    · rw [(c4 n m' hm' n0).2.1]; exact (d1 n m' hm' n0).2.2
  · show (if n = 0 then yC c.1 else c.2.1.1 n) + 526 ≠ mw.1 (mw.2.1 f) + 526
    rw [ea]
    by_cases n0 : n = 0
    · rw [n0, c3]
      have := a2 40 (mw.2.1 f) (by omega) (by omega) (by omega)
      omega
    · obtain ⟨x1, x2, x3, -⟩ := c4 n m' hm' n0
      rw [x2]
      have := a2 (mw.2.2.1 n) (mw.2.1 f) (by omega) (by omega) (fun q => x3 f hf q.symm)
      omega
/-- which number a publication may take -/
def BGd (b : By) : Prop := b.1 ≤ 2048 ∧ ∀ i, b.2 i < 256
theorem BGd.gd {b : By} (hb : BGd b) {m : Md} (h : rdi b.1 b.2 = .ok m) : GDm m := rdi_g hb.2 hb.1 h
theorem MWD.puq (hS : STI c.2.2.1 st) (mst : MST c.2.2.1 st ms) (h8 : ms.length ≤ 8) (hb : BGd (BT f)) (ha : ∀ m, rdi (BT f).1 (BT f).2 = .ok m → m.1 ≠ 0 → c.2.2.1 m.1 = none → c.2.1.1 m.1 = mw.1 (mw.2.1 f)) : ∃ bs, PUQ c (zpu c st f n (pvf c mw BT cm dx f)) (pvf c mw BT cm dx f) ms bs := by
  have hE := hS.2.1
  cases hr : rdi (BT f).1 (BT f).2 with
  | error e =>
    refine ⟨[(1, (c.2.2.2.1 f).1, 0), (4, 0, 0), (5, 0, 0)], ⟨fun n m' hm h0 => (mst.2.1 n).mpr ⟨h0, m', hm⟩, by simp only [List.length_cons, List.length_nil]; omega⟩, fun m hm => ?_, List.mem_cons_self .., by simp, by simp⟩
    have hm : rdi (BT f).1 (BT f).2 = .ok m := hm
    rw [hr] at hm; cases hm
  | ok m0 =>
    refine ⟨[(2, lN m0.1, 0), (1, (c.2.2.2.1 f).1, 0), (4, 0, 0), (5, 0, 0)], ⟨fun n m' hm h0 => (mst.2.1 n).mpr ⟨h0, m', hm⟩, by simp only [List.length_cons, List.length_nil]; omega⟩, fun m hm => ?_, by simp [zf, zpu], by simp, by simp⟩
    have hm : rdi (BT f).1 (BT f).2 = .ok m := hm
    have e : m0 = m := by rw [hr] at hm; injection hm
    subst e
    have gd := hb.gd hm
    refine ⟨gd, gd.sm, List.mem_cons_self .., fun h0 hv => ha m0 hm h0 ?_⟩
    cases hw : c.2.2.1 m0.1 with
    | none => rfl
    | some m' =>
      have := hE.2.1 m0.1 m' hw h0
      have hv : (vsw st (2, lN m0.1, 0)).1 = false := hv
      rw [this] at hv; cases hv
end
