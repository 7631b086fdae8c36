/-! a worker of the component's: constants, truths, comparisons -/
/-- a value that is not too deep, nor too wide -/
def VW (v : VL) : Prop := (v.1 < 8 ∧ fdp v.2.2 ≤ 40 ∧ fln v.2.2 ≤ 256 ∧ fbd v.2.2) ∧ (v.1 ≤ 5 → rng v.1 v.2.1 ∧ v.2.2 = .leaf) ∧ fsz v.2.2 ≤ 200000
theorem fer_bd : ∀ c : LF, fbd (fer c) → fbd c
  | .leaf, _ => trivial
  | .inner k x u c n, h => by
    obtain ⟨h1, h2, h3, h4⟩ := (h : k < 16 ∧ fln (fer c) < 2147483648 ∧ fbd (fer c) ∧ fbd (fer n))
    rw [fer_ln] at h2
    exact ⟨h1, h2, fer_bd c h3, fer_bd n h4⟩
section
variable {G : Gt} {B d : Nat} {h : AH} {l : List Nat} {o : Lc} {wi W A q BA X tt lim SP t : Nat} {snd : Int64} {MA : Ma} {s : Ms} {K : Outcome → AH → Prop}
theorem cconst_ok {op a b : Nat} (H : OPR G B h A W q BA X tt snd lim SP wi MA l o s) (ho : (5 ≤ op ∧ op < 11) ∨ op = 46) (hn : (stk s).length < 64) (ha : 1 ≤ av G h l) (hd : 6 ≤ d) (kk : RZ K G B h A W q BA X tt snd lim SP wi MA o (oCon snd op a b s)) : MW G d e_X1_constant [.ref A, .int (nI op), .long (lN a), .long (lN b)] h K := by
  refine st_X1_constant fun XX oo hG hD _ => ?_
  subst hG; subst hD
  obtain ⟨⟨c1, c2, c3, c4, c5⟩, ⟨c6, c7, c8, c9⟩, c10, c11, c12, c13⟩ := id H.1
  have kk : ∀ h' l' o', OUT wi W h h' o o' → OPR XX.G B h' A W q BA X tt snd lim SP wi MA l' o' (mpu s (if op = 5 then vI 2 0 (lN a) else if op = 6 then vI 3 0 (lN a) else if op = 7 then vI 4 (lN a) (lN b) else if op = 10 then vI 5 0 (lN a) else if op = 46 then vI 5 0 snd else vT (op == 8))) → K (.returned none) h' := kk
  refine k_X1_constant_0 oo ?_
  rcases (show op = 5 ∨ op = 6 ∨ op = 7 ∨ op = 8 ∨ op = 9 ∨ op = 10 ∨ op = 46 by omega) with z | z | z | z | z | z | z
  · subst z
    show V XX K 40 _ _ _
    refine k_X1_constant_40 oo ?_
    refine cpushNumber_ok (kd := 2) H rfl hn ha (by omega) fun h' l' o' u1 u2 _ => ?_
    exact k_X1_constant_49 oo (k_X1_constant_130 oo (kk h' l' o' u1 u2))
  · subst z
    show V XX K 52 _ _ _
    refine k_X1_constant_52 oo ?_
    refine cpushNumber_ok (kd := 3) H rfl hn ha (by omega) fun h' l' o' u1 u2 _ => ?_
    exact k_X1_constant_61 oo (k_X1_constant_130 oo (kk h' l' o' u1 u2))
  · subst z
    show V XX K 64 _ _ _
    refine k_X1_constant_64 oo ?_
    refine cpushNumber_ok (kd := 4) H rfl hn ha (by omega) fun h' l' o' u1 u2 _ => ?_
    exact k_X1_constant_74 oo (k_X1_constant_130 oo (kk h' l' o' u1 u2))
  · subst z
    show V XX K 77 _ _ _
    refine k_X1_constant_77 oo (fun c => absurd rfl c) (fun _ => ?_)
    refine k_X1_constant_84 oo ?_
    refine k_X1_constant_89 oo ?_
    refine cpushTruth_ok (b := true) H hn ha (by omega) fun h' l' o' u1 u2 _ => ?_
    exact k_X1_constant_92 oo (k_X1_constant_130 oo (kk h' l' o' u1 u2))
  · subst z
    show V XX K 77 _ _ _
    refine k_X1_constant_77 oo (fun _ => ?_) (fun c => absurd c (by decide))
    refine k_X1_constant_88 oo ?_
    refine k_X1_constant_89 oo ?_
    refine cpushTruth_ok (b := false) H hn ha (by omega) fun h' l' o' u1 u2 _ => ?_
    exact k_X1_constant_92 oo (k_X1_constant_130 oo (kk h' l' o' u1 u2))
  · subst z
    show V XX K 95 _ _ _
    refine k_X1_constant_95 oo ?_
    refine cpushNumber_ok (kd := 5) H rfl hn ha (by omega) fun h' l' o' u1 u2 _ => ?_
    exact k_X1_constant_104 oo (k_X1_constant_130 oo (kk h' l' o' u1 u2))
  · subst z
    show V XX K 107 _ _ _
    have t1 := H.2.2.1.1.1.1.1
    have ix : IX (nI tt) 32 tt := IX.mk (by omega) (by omega)
    refine k_X1_constant_107 oo ?_
    refine cpushNumber_ok (kd := 5) H rfl hn ha (by omega) fun h' l' o' u1 u2 _ => ?_
    exact k_X1_constant_130 oo (kk h' l' o' u1 u2)
/-- the value of an item on the stack -/
theorem OPR.at (H : OPR G B h A W q BA X tt snd lim SP wi MA l o s) (ht : t + 1 = s.1) {b : Nat} {v : VL} (hs : (stk s)[b]? = some (.inl v)) : ∃ x, o (1, wi, t, (stk s).length - 1 - b) = some x ∧ lvE x = v ∧ RVL h x := by
  obtain ⟨-, m, es, -⟩ := H.2.2.1.F ht
  rw [es] at hs ⊢
  obtain ⟨x, x1, x2, x3⟩ := m.2.1.nth hs
  exact ⟨x, x1, x3, (H.2.1.2.2.2 _ x x1).1⟩
theorem stkK {k k' : List It} : sK (sK s k) k' = sK s k' := by
  refine Prod.ext rfl (Prod.ext (funext fun j => ?_) rfl)
  show uF (uF s.2.1 (s.1 - 1) _) (s.1 - 1) ((uF s.2.1 (s.1 - 1) ((tpf s).1, (tpf s).2.1, (tpf s).2.2.1, k) (s.1 - 1)).1, (uF s.2.1 (s.1 - 1) ((tpf s).1, (tpf s).2.1, (tpf s).2.2.1, k) (s.1 - 1)).2.1, (uF s.2.1 (s.1 - 1) ((tpf s).1, (tpf s).2.1, (tpf s).2.2.1, k) (s.1 - 1)).2.2.1, k') j = uF s.2.1 (s.1 - 1) ((tpf s).1, (tpf s).2.1, (tpf s).2.2.1, k') j
  rw [uF_s]
  unfold uF
  split <;> rfl
theorem ccompare_ok {op : Nat} {va vb : VL} {k : List It} (H : OPR G B h A W q BA X tt snd lim SP wi MA l o s) (ho : 36 ≤ op ∧ op < 42) (hs : stk s = .inl vb :: .inl va :: k) (hA : VW va) (hB : VW vb) (hd : 60 ≤ d) (hav : 5 ≤ av G h l) (kk : RZ K G B h A W q BA X tt snd lim SP wi MA o (if op < 38 then mpay lim (vsz va + vsz vb) s fun s => mgo (sK s (vT (vsm va.1 vb.1 va.2.1 vb.2.1 va.2.2 vb.2.2 == (op == 36)) :: k)) else mgo (sK s (vT (if op = 38 then decide (w128 va.2.1.1 va.2.1.2 < w128 vb.2.1.1 vb.2.1.2) else if op = 39 then decide (w128 va.2.1.1 va.2.1.2 ≤ w128 vb.2.1.1 vb.2.1.2) else if op = 40 then decide (w128 vb.2.1.1 vb.2.1.2 < w128 va.2.1.1 va.2.1.2) else decide (w128 vb.2.1.1 vb.2.1.2 ≤ w128 va.2.1.1 va.2.1.2)) :: k)))) : MW G d e_X1_compare [.ref A, .int (nI op)] h K := by
  refine st_X1_compare fun XX oo hG hD _ => ?_
  subst hG; subst hD
  have w := H.2.2.1
  obtain ⟨t, ht⟩ : ∃ t, t + 1 = s.1 := ⟨s.1 - 1, by have := w.1.2.2.1; omega⟩
  have hf : h.R 28 A = some (Fa W t) := by have := H.2.2.2.1; rw [show s.1 - 1 = t by omega] at this; exact this
  have t0 := H.1.1.1
  obtain ⟨y, y1, y2, y3⟩ := H.at ht (b := 0) (v := vb) (by rw [hs]; rfl)
  obtain ⟨x, x1, x2, x3⟩ := H.at ht (b := 1) (v := va) (by rw [hs]; rfl)
  have y3' : RV h y.1 y.2.1 y.2.2.1 y.2.2.2 := y3
  have x3' : RV h x.1 x.2.1 x.2.2.1 x.2.2.2 := x3
  have ev : va = (x.2.1, x.2.2.1, fer x.2.2.2) := x2.symm
  have eb' : vb = (y.2.1, y.2.2.1, fer y.2.2.2) := y2.symm
  have kx : x.2.1 < 8 := by have := hA.1.1; rw [ev] at this; exact this
  have ky : y.2.1 < 8 := by have := hB.1.1; rw [eb'] at this; exact this
  have dx : fdp x.2.2.2 ≤ 40 := by have := hA.1.2.1; rw [ev, fer_dp] at this; exact this
  have dy : fdp y.2.2.2 ≤ 40 := by have := hB.1.2.1; rw [eb', fer_dp] at this; exact this
  have lx : fln x.2.2.2 ≤ 256 := by have := hA.1.2.2.1; rw [ev, fer_ln] at this; exact this
  have ly : fln y.2.2.2 ≤ 256 := by have := hB.1.2.2.1; rw [eb', fer_ln] at this; exact this
  have bx : fbd x.2.2.2 := by have := hA.1.2.2.2; rw [ev] at this; exact fer_bd _ this
  have bY : fbd y.2.2.2 := by have := hB.1.2.2.2; rw [eb'] at this; exact fer_bd _ this
  have sx : vsz va = 1 + fsz x.2.2.2 := by rw [ev]; show 1 + fsz (fer x.2.2.2) = _; rw [fer_sz]
  have sy : vsz vb = 1 + fsz y.2.2.2 := by rw [eb']; show 1 + fsz (fer y.2.2.2) = _; rw [fer_sz]
  have zx : fsz x.2.2.2 ≤ 200000 := by have := hA.2.2; rw [ev, fer_sz] at this; exact this
  have zy : fsz y.2.2.2 ≤ 200000 := by have := hB.2.2; rw [eb', fer_sz] at this; exact this
  -- the end: both go, a truth comes
  have fin : ∀ (e : Bool) (v4 : Value) h1 l1 o1 s1, OUT wi W h h1 o o1 → OPR XX.G B h1 A W q BA X tt snd lim SP wi MA l1 o1 s1 → stk s1 = stk s → 5 ≤ av XX.G h1 l1 → RZ K XX.G B h1 A W q BA X tt snd lim SP wi MA o1 (mgo (sK s1 (vT e :: k))) → V XX K 165 [.ref A, .int (nI op), .ref y.1, .ref x.1, v4, nov] [.int (bI e)] h1 := fun e v4 h1 l1 o1 s1 u1 H1 es av1 k1 => by
    have t1 := H1.1.1.1
    refine k_X1_compare_165 oo ?_
    refine cdropTop_ok H1 (es.trans hs) (fun v hv => by cases hv; have := hB.1.2.1; omega) (by omega) fun h2 l2 o2 u2 H2 a2 _ _ => ?_
    have t2 := H2.1.1.1
    refine k_X1_compare_171 oo ?_
    refine cdropTop_ok H2 (i := .inl va) (k := k) stk_K (fun v hv => by cases hv; have := hA.1.2.1; omega) (by omega) fun h3 l3 o3 u3 H3 a3 _ _ => ?_
    rw [stkK] at H3
    have t3 := H3.1.1.1
    refine k_X1_compare_175 oo ?_
    have hk : k.length < 64 := by
      obtain ⟨-, m, es', -⟩ := w.F ht
      have := m.1.2.2.2.2
      rw [← es', hs] at this
      simp at this
      omega
    refine cpushTruth_ok (b := e) H3 (by rw [stk_K]; exact hk) (by omega) (by omega) fun h4 l4 o4 u4 H4 _ => ?_
    refine k_X1_compare_181 oo ?_
    have em : mpu (sK s1 k) (vT e) = sK s1 (vT e :: k) := by unfold mpu; rw [stk_K, stkK]
    rw [em] at H4
    exact k1 h4 l4 o4 ((u2.trans u3).trans u4) H4
  refine k_X1_compare_0 oo ?_
  refine ctop_ok (b := 0) (i := .inl vb) H.1 w hf ht (by rw [hs]; rfl) fun y' q1 _ => ?_
  have : y = y' := by rw [y1] at q1; exact Option.some.inj q1
  subst this
  refine k_X1_compare_5 oo ?_
  refine ctop_ok (b := 1) (i := .inl va) H.1 w hf ht (by rw [hs]; rfl) fun x' q1 _ => ?_
  have : x = x' := by rw [x1] at q1; exact Option.some.inj q1
  subst this
  by_cases c38 : op < 38
  · rw [if_pos c38] at kk
    refine k_X1_compare_11 oo (fun z => absurd ((nI_leI (by omega) (by omega)).mp z) (by omega)) (fun _ => ?_)
    refine k_X1_compare_18 oo ?_
    refine size_ok x3' (by omega) ?_
    refine k_X1_compare_23 oo ?_
    refine size_ok y3' (by omega) ?_
    refine k_X1_compare_27 oo ?_
    rw [nI_add, ← sx, ← sy]
    refine cpay_ok (k := fun s => mgo (sK s (vT (vsm va.1 vb.1 va.2.1 vb.2.1 va.2.2 vb.2.2 == (op == 36)) :: k))) H (by omega) (by omega) (fun h1 s1 u1 H1 es1 av1 em => ?_) (fun em => by rw [em] at kk; exact kk)
    rw [em] at kk
    have t1 := H1.1.1.1
    subst es1
    obtain ⟨y', yy1, yy2, yy3⟩ := H1.at ht (b := 0) (v := vb) (by show (stk s)[0]? = _; rw [hs]; rfl)
    obtain ⟨x', xx1, xx2, xx3⟩ := H1.at ht (b := 1) (v := va) (by show (stk s)[1]? = _; rw [hs]; rfl)
    have : y = y' := by
      have yy1 : o (1, wi, t, (stk s).length - 1 - 0) = some y' := yy1
      rw [y1] at yy1; exact Option.some.inj yy1
    subst this
    have : x = x' := by
      have xx1 : o (1, wi, t, (stk s).length - 1 - 1) = some x' := xx1
      rw [x1] at xx1; exact Option.some.inj xx1
    subst this
    have esm : vsm va.1 vb.1 va.2.1 vb.2.1 va.2.2 vb.2.2 = vsm x.2.1 y.2.1 x.2.2.1 y.2.2.1 (fer x.2.2.2) (fer y.2.2.2) := by rw [ev, eb']
    have kk1 := kk.out u1
    rw [esm] at kk1
    refine k_X1_compare_31 oo (fun z => absurd ((nI_leI (by omega) (by omega)).mp z) (by omega)) (fun _ => ?_)
    refine k_X1_compare_37 oo ?_
    rcases (show op = 36 ∨ op = 37 by omega) with z | z
    · subst z
      refine k_X1_compare_60 oo (fun c => absurd rfl c) (fun _ => ?_)
      refine k_X1_compare_68 oo ?_
      refine isSame_ok xx3 yy3 ⟨by omega, by omega⟩ ⟨by omega, by omega⟩ ⟨bx, bY⟩ (by omega) ?_
      refine k_X1_compare_73 oo ?_
      refine fin _ _ h1 l o _ u1 H1 rfl (by omega) ?_
      have : ∀ b : Bool, (b == ((36 : Nat) == 36)) = b := fun b => by cases b <;> rfl
      rw [this] at kk1; exact kk1
    · subst z
      refine k_X1_compare_60 oo (fun _ => ?_) (fun c => absurd c (by decide))
      refine k_X1_compare_76 oo (fun c => absurd rfl c) (fun _ => ?_)
      refine k_X1_compare_82 oo ?_
      refine isSame_ok xx3 yy3 ⟨by omega, by omega⟩ ⟨by omega, by omega⟩ ⟨bx, bY⟩ (by omega) ?_
      have tr : ∀ b : Bool, (b == ((37 : Nat) == 36)) = !b := fun b => by cases b <;> rfl
      rw [tr] at kk1
      cases hv : vsm x.2.1 y.2.1 x.2.2.1 y.2.2.1 (fer x.2.2.2) (fer y.2.2.2) with
      | true =>
        rw [hv] at kk1
        refine k_X1_compare_87 oo (fun _ => ?_) (fun c => absurd (show bI true = 0 from c) (by decide))
        refine k_X1_compare_94 oo ?_
        exact fin false _ h1 l o _ u1 H1 rfl (by omega) kk1
      | false =>
        rw [hv] at kk1
        refine k_X1_compare_87 oo (fun c => absurd rfl c) (fun _ => ?_)
        refine k_X1_compare_90 oo ?_
        exact fin true _ h1 l o _ u1 H1 rfl (by omega) kk1
  · rw [if_neg c38] at kk
    obtain ⟨x4, x5, x6, x7, -⟩ := x3'
    obtain ⟨y4, y5, y6, y7, -⟩ := y3'
    refine k_X1_compare_11 oo (fun _ => ?_) (fun z => absurd ((nI_leI (by omega) (by omega)).mpr (by omega)) z)
    refine k_X1_compare_31 oo (fun _ => ?_) (fun z => absurd ((nI_leI (by omega) (by omega)).mpr (by omega)) z)
    refine k_X1_compare_41 oo ?_
    refine wcompare_ok (by omega) ?_
    have e1 : w128 va.2.1.1 va.2.1.2 = w128 x.2.2.1.1 x.2.2.1.2 := by rw [ev]
    have e2 : w128 vb.2.1.1 vb.2.1.2 = w128 y.2.2.1.1 y.2.2.1.2 := by rw [eb']
    rw [e1, e2] at kk
    generalize w128 x.2.2.1.1 x.2.2.1.2 = a' at *
    generalize w128 y.2.2.1.1 y.2.2.1.2 = b' at *
    -- what the comparison tells
    have cl : (cmw a' b' < 0 ↔ a' < b') ∧ (0 < cmw a' b' ↔ b' < a') := by
      unfold cmw
      split
      · next z => exact ⟨⟨fun _ => z, fun _ => by decide⟩, ⟨fun q => absurd q (by decide), fun q => by omega⟩⟩
      · next z =>
        split
        · next z2 => exact ⟨⟨fun q => absurd q (by decide), fun q => absurd q z⟩, ⟨fun q => absurd q (by decide), fun q => by omega⟩⟩
        · next z2 => exact ⟨⟨fun q => absurd q (by decide), fun q => absurd q z⟩, ⟨fun _ => by omega, fun _ => by decide⟩⟩
    have le0 : ∀ x : Int32, (0 ≤ x ↔ ¬ x < 0) ∧ (x ≤ 0 ↔ ¬ 0 < x) := fun x => ⟨Int32.not_lt.symm, Int32.not_lt.symm⟩
    rcases (show op = 38 ∨ op = 39 ∨ op = 40 ∨ op = 41 by omega) with z | z | z | z
    · subst z
      refine k_X1_compare_60 oo (fun _ => ?_) (fun c => absurd c (by decide))
      refine k_X1_compare_76 oo (fun _ => ?_) (fun c => absurd c (by decide))
      refine k_X1_compare_98 oo (fun c => absurd rfl c) (fun _ => ?_)
      rw [if_pos rfl] at kk
      refine k_X1_compare_104 oo (fun c => ?_) (fun c => ?_)
      · refine k_X1_compare_113 oo ?_
        refine fin false _ h l o s OUT.refl H rfl hav ?_
        rw [decide_eq_false (fun q => (le0 _).1.mp c (cl.1.mpr q))] at kk; exact kk
      · refine k_X1_compare_109 oo ?_
        refine fin true _ h l o s OUT.refl H rfl hav ?_
        rw [decide_eq_true (cl.1.mp (by rw [(le0 _).1, Classical.not_not] at c; exact c))] at kk; exact kk
    · subst z
      refine k_X1_compare_60 oo (fun _ => ?_) (fun c => absurd c (by decide))
      refine k_X1_compare_76 oo (fun _ => ?_) (fun c => absurd c (by decide))
      refine k_X1_compare_98 oo (fun _ => ?_) (fun c => absurd c (by decide))
      refine k_X1_compare_117 oo (fun c => absurd rfl c) (fun _ => ?_)
      rw [if_neg (by decide), if_pos rfl] at kk
      refine k_X1_compare_123 oo (fun c => ?_) (fun c => ?_)
      · refine k_X1_compare_132 oo ?_
        refine fin false _ h l o s OUT.refl H rfl hav ?_
        rw [decide_eq_false (fun q => by have := cl.2.mp c; omega)] at kk; exact kk
      · refine k_X1_compare_128 oo ?_
        refine fin true _ h l o s OUT.refl H rfl hav ?_
        rw [decide_eq_true (Nat.not_lt.mp fun q => c (cl.2.mpr q))] at kk; exact kk
    · subst z
      refine k_X1_compare_60 oo (fun _ => ?_) (fun c => absurd c (by decide))
      refine k_X1_compare_76 oo (fun _ => ?_) (fun c => absurd c (by decide))
      refine k_X1_compare_98 oo (fun _ => ?_) (fun c => absurd c (by decide))
      refine k_X1_compare_117 oo (fun _ => ?_) (fun c => absurd c (by decide))
      refine k_X1_compare_136 oo (fun c => absurd rfl c) (fun _ => ?_)
      rw [if_neg (by decide), if_neg (by decide), if_pos rfl] at kk
      refine k_X1_compare_142 oo (fun c => ?_) (fun c => ?_)
      · refine k_X1_compare_151 oo ?_
        refine fin false _ h l o s OUT.refl H rfl hav ?_
        rw [decide_eq_false (fun q => (le0 _).2.mp c (cl.2.mpr q))] at kk; exact kk
      · refine k_X1_compare_147 oo ?_
        refine fin true _ h l o s OUT.refl H rfl hav ?_
        rw [decide_eq_true (cl.2.mp (by rw [(le0 _).2, Classical.not_not] at c; exact c))] at kk; exact kk
    · subst z
      refine k_X1_compare_60 oo (fun _ => ?_) (fun c => absurd c (by decide))
      refine k_X1_compare_76 oo (fun _ => ?_) (fun c => absurd c (by decide))
      refine k_X1_compare_98 oo (fun _ => ?_) (fun c => absurd c (by decide))
      refine k_X1_compare_117 oo (fun _ => ?_) (fun c => absurd c (by decide))
      refine k_X1_compare_136 oo (fun _ => ?_) (fun c => absurd c (by decide))
      rw [if_neg (by decide), if_neg (by decide), if_neg (by decide)] at kk
      refine k_X1_compare_155 oo (fun c => ?_) (fun c => ?_)
      · refine k_X1_compare_164 oo ?_
        refine fin false _ h l o s OUT.refl H rfl hav ?_
        rw [decide_eq_false (fun q => by have := cl.1.mp c; omega)] at kk; exact kk
      · refine k_X1_compare_160 oo ?_
        refine fin true _ h l o s OUT.refl H rfl hav ?_
        rw [decide_eq_true (Nat.not_lt.mp fun q => c (cl.1.mpr q))] at kk; exact kk
end
