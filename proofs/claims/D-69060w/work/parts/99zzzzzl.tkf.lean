/-! the twin's state: accounts, resources as rows -/
/-- accounts, modules, resources -/
abbrev Tst : Type := List (Int64 × Int64 × Int64) × List Nat × List (Int64 × Nat × VL)
abbrev Rw : Type := Nat × (Int64 × Int64) × Nat
def rwF : Fo → List Rw
  | .leaf => []
  | .inner k x _ c r => (k, tn k x, fln c) :: (rwF c ++ rwF r)
def rwV (v : VL) : List Rw := (v.1, tn v.1 v.2.1, fln v.2.2) :: rwF v.2.2
theorem rwF_l : ∀ c : Fo, (rwF c).length = fsz c
  | .leaf => rfl
  | .inner k x u c r => by
    show (rwF c ++ rwF r).length + 1 = 1 + fsz c + fsz r
    rw [List.length_append, rwF_l c, rwF_l r]; omega
theorem rwV_l (v : VL) : (rwV v).length = vsz v := by
  show (rwF v.2.2).length + 1 = 1 + fsz v.2.2
  rw [rwF_l]; omega
theorem fln_sz : ∀ c : Fo, fln c ≤ fsz c
  | .leaf => Nat.le_refl _
  | .inner k x u c r => by
    have := fln_sz r
    have e1 : fsz (.inner k x u c r : Fo) = 1 + fsz c + fsz r := rfl
    have e2 : fln (.inner k x u c r : Fo) = fln r + 1 := by simp [fln]; omega
    omega
theorem fap_fof {k : Nat} {x : Int64 × Int64} {u : Unit} {c r : Fo} : ∀ b : Fo, fap (fof (flo b ++ [(k, x, c)])) r = fap b (.inner k x u c r)
  | .leaf => rfl
  | .inner k' x' u' c' r' => by
    show Std.DTreeMap.Internal.Impl.inner k' x' () c' (fap (fof (flo r' ++ [(k, x, c)])) r) = .inner k' x' u' c' (fap r' (.inner k x u c r))
    rw [fap_fof r']
def RWS (h : AH) (ax : Nat → Nat) (p : Nat) (l : List Rw) : Prop := ∀ (i : Nat) (e : Rw), l[i]? = some e → h.EI 961 (ax 5) (p + i) = nI e.1 ∧ h.EJ 979 (ax 6) (p + i) = e.2.1.1 ∧ h.EJ 995 (ax 7) (p + i) = e.2.1.2 ∧ h.EI 1008 (ax 8) (p + i) = nI e.2.2
theorem RWS.ap {h : AH} {ax : Nat → Nat} {p : Nat} {l l' : List Rw} (r : RWS h ax p (l ++ l')) : RWS h ax p l ∧ RWS h ax (p + l.length) l' := ⟨fun i e he => r i e (by rw [List.getElem?_append_left (get_lt he)]; exact he), fun i e he => by
  have := r (l.length + i) e (by rw [List.getElem?_append_right (by omega), show l.length + i - l.length = i by omega]; exact he)
  rw [show p + (l.length + i) = p + l.length + i by omega] at this; exact this⟩
def rwsF : List Nat := [10000 + 961, 10000 + 979, 10000 + 995, 10000 + 1008]
theorem RWS.fs {h h' : AH} {ax : Nat → Nat} {p : Nat} {l : List Rw} {f : List Nat} (q : Fq (FS f) h h') (hf : rwsF.all (fun g => !(f.contains g)) = true) (r : RWS h ax p l) : RWS h' ax p l := fun i e he => by
  obtain ⟨r1, r2, r3, r4⟩ := r i e he
  have np := fun g a hg => FS.no hf g a hg
  exact ⟨by rw [q.1.EI (np _ _ (by decide))]; exact r1, by rw [q.1.EJ (np _ _ (by decide))]; exact r2, by rw [q.1.EJ (np _ _ (by decide))]; exact r3, by rw [q.1.EI (np _ _ (by decide))]; exact r4⟩
def sms : List (Nat × Nat × Nat × Nat) := [(2816, 851, 256, 0), (2817, 867, 256, 1), (2818, 883, 256, 2), (2823, 931, 256, 3), (2824, 944, 256, 4), (2826, 961, 16384, 5), (2827, 979, 16384, 6), (2828, 995, 16384, 7), (2829, 1008, 16384, 8)]
def SMs (h : AH) (A : Nat) (ax : Nat → Nat) : Prop := ∀ z ∈ sms, h.R z.1 A = some (ax z.2.2.2) ∧ h.tag (ax z.2.2.2) = some (z.2.1, z.2.2.1)
def smsF : List Nat := sms.map fun z => z.1
theorem SMs.fs {h h' : AH} {A : Nat} {ax : Nat → Nat} {f : List Nat} (q : Fq (FS f) h h') (hf : smsF.all (fun g => !(f.contains g)) = true) (s : SMs h A ax) : SMs h' A ax := fun z hz => ⟨by rw [q.1.R (FS.no hf _ _ (by rw [List.contains_iff_mem]; exact List.mem_map.mpr ⟨z, hz, rfl⟩))]; exact (s z hz).1, q.1.tag (s z hz).2⟩
theorem SMs.at {h : AH} {A : Nat} {ax : Nat → Nat} (s : SMs h A ax) (i : Nat) {z : Nat × Nat × Nat × Nat} (hz : sms[i]? = some z) : h.R z.1 A = some (ax z.2.2.2) ∧ h.tag (ax z.2.2.2) = some (z.2.1, z.2.2.1) := s z (List.mem_of_getElem? hz)
/-- a value that may be kept -/
def VKp (v : VL) : Prop := vsz v ≤ 64 ∧ fdp v.2.2 ≤ 40 ∧ v.1 < 128 ∧ fbk v.2.2
def TSV (h : AH) (A : Nat) (ax : Nat → Nat) (t : Tst) : Prop := SMs h A ax ∧ (h.I 2819 A = nI t.1.length ∧ t.1.length ≤ 256 ∧ ∀ (i : Nat) (x : Int64 × Int64 × Int64), t.1[i]? = some x → h.EJ 851 (ax 0) i = x.1 ∧ h.EJ 867 (ax 1) i = x.2.1 ∧ h.EJ 883 (ax 2) i = x.2.2) ∧ (h.I 2825 A = nI t.2.2.length ∧ t.2.2.length ≤ 256 ∧ ∀ (i : Nat) (x : Int64 × Nat × VL), t.2.2[i]? = some x → (h.EJ 931 (ax 3) i = x.1 ∧ h.EI 944 (ax 4) i = nI x.2.1 ∧ x.2.1 < 2147483648) ∧ RWS h ax (64 * i) (rwV x.2.2) ∧ VKp x.2.2) ∧ h.I 2821 A = nI t.2.1.length
def tsvF : List Nat := smsF ++ [2819, 2825, 2821, 10000 + 851, 10000 + 867, 10000 + 883, 10000 + 931, 10000 + 944] ++ rwsF
theorem TSV.fs {h h' : AH} {A : Nat} {ax : Nat → Nat} {t : Tst} {f : List Nat} (q : Fq (FS f) h h') (hf : tsvF.all (fun g => !(f.contains g)) = true) (s : TSV h A ax t) : TSV h' A ax t := by
  obtain ⟨s1, ⟨s2, s3, s4⟩, ⟨s5, s6, s7⟩, s8⟩ := s
  have np := fun g a hg => FS.no hf g a hg
  have sub : ∀ l' : List Nat, l'.all (fun g => tsvF.contains g) = true → l'.all (fun g => !(f.contains g)) = true := fun l' hl => by
    rw [List.all_eq_true] at hl hf ⊢
    exact fun g hg => hf g (List.contains_iff_mem.mp (hl g hg))
  refine ⟨s1.fs q (sub _ (by decide)), ⟨by rw [q.1.I (np _ _ (by decide))]; exact s2, s3, fun i x hx => ?_⟩, ⟨by rw [q.1.I (np _ _ (by decide))]; exact s5, s6, fun i x hx => ?_⟩, by rw [q.1.I (np _ _ (by decide))]; exact s8⟩
  · obtain ⟨a, b, c⟩ := s4 i x hx
    exact ⟨by rw [q.1.EJ (np _ _ (by decide))]; exact a, by rw [q.1.EJ (np _ _ (by decide))]; exact b, by rw [q.1.EJ (np _ _ (by decide))]; exact c⟩
  · obtain ⟨⟨a, b, b'⟩, c, e⟩ := s7 i x hx
    exact ⟨⟨by rw [q.1.EJ (np _ _ (by decide))]; exact a, by rw [q.1.EI (np _ _ (by decide))]; exact b, b'⟩, c.fs q (sub _ (by decide)), e⟩
/-- where it is, or -1 -/
def idI : Option Nat → Int32
  | some i => nI i
  | none => -1
section
variable {G : Gt} {d : Nat} {h h' : AH} {o o' : Lc} {tx ax UX at' : Nat → Nat} {A n n' lim : Nat} {snd : Int64} {s : Ms} {K : Outcome → AH → Prop} {t : Tst}
theorem tfac_ok {a : Int64} (t0 : h.tag A = some (22, 0)) (sv : TSV h A ax t) (kk : K (.returned (some (.int (idI (t.1.findIdx? fun x => x.1 == a))))) h) : MW G d e_X23_findAccount [.ref A, .long a] h K := by
  refine st_X23_findAccount fun X oo hG hD _ => ?_
  obtain ⟨s1, ⟨s2, s3, s4⟩, -⟩ := sv
  obtain ⟨r1, r2⟩ := s1.at 0 rfl
  refine k_X23_findAccount_0 oo ?_
  have loop : ∀ c i, i + c = t.1.length → (∀ j x, j < i → t.1[j]? = some x → x.1 ≠ a) → V X K 2 [.ref A, .long a, nov, .int (nI i)] [] h := by
    intro c
    induction c with
    | zero =>
      intro i hi hb
      have hn : (t.1.findIdx? fun x => x.1 == a) = none := by
        rw [List.findIdx?_eq_none_iff]
        intro x hx
        obtain ⟨j, hj⟩ := List.getElem?_of_mem hx
        simpa using hb j x (by have := get_lt hj; omega) hj
      rw [hn] at kk
      refine k_X23_findAccount_2 (r2 := s2) oo (fun _ => ?_) (fun q => absurd ((nI_leI (by omega) (by omega)).mpr (by omega)) q)
      refine k_X23_findAccount_27 (r2 := s2) oo (fun _ => ?_) (fun q => absurd ((nI_leI (by omega) (by omega)).mpr (by omega)) q)
      refine k_X23_findAccount_39 oo ?_
      exact k_X23_findAccount_40 oo kk
    | succ c ih =>
      intro i hi hb
      obtain ⟨x, hx⟩ : ∃ x, t.1[i]? = some x := ⟨_, List.getElem?_eq_getElem (by omega)⟩
      have hrow := (s4 i x hx).1
      have ix : IX (nI i) 256 i := IX.mk (by omega) (by omega)
      refine k_X23_findAccount_2 (r2 := s2) oo (fun q => absurd ((nI_leI (by omega) (by omega)).mp q) (by omega)) (fun _ => ?_)
      by_cases e : x.1 = a
      · have hf : (t.1.findIdx? fun x => x.1 == a) = some i := by
          rw [List.findIdx?_eq_some_iff_getElem]
          refine ⟨by omega, ?_, fun j hj => ?_⟩
          · have : t.1[i] = x := by rw [List.getElem?_eq_getElem (by omega)] at hx; exact Option.some.inj hx
            rw [this]; simpa using e
          · have := hb j _ hj (List.getElem?_eq_getElem (by omega))
            simpa using this
        rw [hf] at kk
        refine k_X23_findAccount_10 (r2 := r1) (r8 := hrow) oo (fun _ => ?_) (fun q => absurd e q)
        refine k_X23_findAccount_27 (r2 := s2) oo (fun q => absurd ((nI_leI (by omega) (by omega)).mp q) (by omega)) (fun _ => ?_)
        refine k_X23_findAccount_35 oo ?_
        exact k_X23_findAccount_40 oo kk
      · refine k_X23_findAccount_10 (r2 := r1) (r8 := hrow) oo (fun q => absurd q e) (fun _ => ?_)
        refine k_X23_findAccount_21 oo ?_
        rw [nI_add]
        refine ih (i + 1) (by omega) (fun j y hj hy => ?_)
        by_cases ej : j = i
        · rw [ej, hx] at hy; cases hy; exact e
        · exact hb j y (by omega) hy
  exact loop t.1.length 0 (by omega) (fun j x hj => absurd hj (by omega))
theorem tfrs_ok {a : Int64} {kd : Nat} (hk : kd < 2147483648) (t0 : h.tag A = some (22, 0)) (sv : TSV h A ax t) (kk : K (.returned (some (.int (idI (t.2.2.findIdx? fun x => x.1 == a && x.2.1 == kd))))) h) : MW G d e_X23_findResource [.ref A, .long a, .int (nI kd)] h K := by
  refine st_X23_findResource fun X oo hG hD _ => ?_
  obtain ⟨s1, -, ⟨s2, s3, s4⟩, -⟩ := sv
  obtain ⟨r1, r2⟩ := s1.at 3 rfl
  obtain ⟨r3, r4⟩ := s1.at 4 rfl
  refine k_X23_findResource_0 oo ?_
  have loop : ∀ c i, i + c = t.2.2.length → (∀ j x, j < i → t.2.2[j]? = some x → ¬ (x.1 = a ∧ x.2.1 = kd)) → V X K 3 [.ref A, .long a, nov, .int (nI kd), .int (nI i)] [] h := by
    intro c
    induction c with
    | zero =>
      intro i hi hb
      have hn : (t.2.2.findIdx? fun x => x.1 == a && x.2.1 == kd) = none := by
        rw [List.findIdx?_eq_none_iff]
        intro x hx
        obtain ⟨j, hj⟩ := List.getElem?_of_mem hx
        simpa using hb j x (by have := get_lt hj; omega) hj
      rw [hn] at kk
      refine k_X23_findResource_3 (r2 := s2) oo (fun _ => ?_) (fun q => absurd ((nI_leI (by omega) (by omega)).mpr (by omega)) q)
      refine k_X23_findResource_41 (r2 := s2) oo (fun _ => ?_) (fun q => absurd ((nI_leI (by omega) (by omega)).mpr (by omega)) q)
      refine k_X23_findResource_55 oo ?_
      exact k_X23_findResource_56 oo kk
    | succ c ih =>
      intro i hi hb
      obtain ⟨x, hx⟩ : ∃ x, t.2.2[i]? = some x := ⟨_, List.getElem?_eq_getElem (by omega)⟩
      obtain ⟨⟨o1, o2, o3⟩, -⟩ := s4 i x hx
      have ix : IX (nI i) 256 i := IX.mk (by omega) (by omega)
      have next : ¬ (x.1 = a ∧ x.2.1 = kd) → V X K 35 [.ref A, .long a, nov, .int (nI kd), .int (nI i)] [] h := fun e => by
        refine k_X23_findResource_35 oo ?_
        rw [nI_add]
        refine ih (i + 1) (by omega) (fun j y hj hy => ?_)
        by_cases ej : j = i
        · rw [ej, hx] at hy; cases hy; exact e
        · exact hb j y (by omega) hy
      refine k_X23_findResource_3 (r2 := s2) oo (fun q => absurd ((nI_leI (by omega) (by omega)).mp q) (by omega)) (fun _ => ?_)
      by_cases e1 : x.1 = a
      · refine k_X23_findResource_12 (r2 := r1) (r8 := o1) oo (fun q => absurd e1 q) (fun _ => ?_)
        by_cases e2 : x.2.1 = kd
        · have hf : (t.2.2.findIdx? fun x => x.1 == a && x.2.1 == kd) = some i := by
            rw [List.findIdx?_eq_some_iff_getElem]
            refine ⟨by omega, ?_, fun j hj => ?_⟩
            · have : t.2.2[i] = x := by rw [List.getElem?_eq_getElem (by omega)] at hx; exact Option.some.inj hx
              rw [this]; simp [e1, e2]
            · have := hb j _ hj (List.getElem?_eq_getElem (by omega))
              simpa using this
          rw [hf] at kk
          refine k_X23_findResource_24 (r2 := r3) (r8 := o2) oo (fun _ => ?_) (fun q => absurd (by rw [e2]) q)
          refine k_X23_findResource_41 (r2 := s2) oo (fun q => absurd ((nI_leI (by omega) (by omega)).mp q) (by omega)) (fun _ => ?_)
          refine k_X23_findResource_50 oo ?_
          exact k_X23_findResource_56 oo kk
        · refine k_X23_findResource_24 (r2 := r3) (r8 := o2) oo (fun q => absurd ((nI_eq (by omega) (by omega)).mp q) e2) (fun _ => ?_)
          exact next (fun z => e2 z.2)
      · refine k_X23_findResource_12 (r2 := r1) (r8 := o1) oo (fun _ => ?_) (fun q => absurd q e1)
        exact next (fun z => e1 z.1)
  exact loop t.2.2.length 0 (by omega) (fun j x hj => absurd hj (by omega))
end
/-- what loading writes -/
def ldF : List Nat := 2830 :: tFl
def LDL (c : Fo) : Prop := ∀ (X : Xt) (_ : OK e_X23_loadOne X) (K : Outcome → AH → Prop) (h : AH) (A : Nat) (tx ax : Nat → Nat) (j n : Nat) (o : Lc) (aa i p : Nat) (y : LV), h.tag A = some (22, 0) → h.R 2831 A = some (tx 0) → SMs h A ax → RWS h ax p (rwF c) → p + fsz c ≤ 16384 → h.I 2830 A = nI p → TH h (tx 0) n o → o (5, 0, j, 0) = some y → (∀ j', j < j' → o (5, 0, j', 0) = none) → h.EI 1008 (ax 8) aa = nI (i + fln c) → aa < 16384 ∧ i + fln c ≤ 16384 → n + fsz c ≤ 24576 → fdp c + 1 ≤ X.d → fbk c → (∀ h' o' y', Fq (FS ldF) h h' → h'.I 2830 A = nI (p + fsz c) → TH h' (tx 0) (n + fsz c) o' → o' (5, 0, j, 0) = some y' → lvE y' = (y.2.1, y.2.2.1, fap (fer y.2.2.2) c) ∧ y'.1 = y.1 → (∀ q, q ≠ (5, 0, j, 0) → o' q = o q) → K (.returned (some (.int (nI y.1)))) h') → V X K 43 [.ref A, .int (nI aa), .int (nI y.1), .int (nI i)] [] h
section
variable {G : Gt} {d : Nat} {h h' : AH} {o o' : Lc} {tx ax UX at' : Nat → Nat} {A n n' lim : Nat} {snd : Int64} {s : Ms} {K : Outcome → AH → Prop} {t : Tst}
theorem ld_of {c : Fo} (L : LDL c) {k p j : Nat} {x : Int64 × Int64} (t0 : h.tag A = some (22, 0)) (rT : h.R 2831 A = some (tx 0)) (sm : SMs h A ax) (rr : RWS h ax p (rwV (k, x, c))) (hp : p + 1 + fsz c ≤ 16384) (ra : h.I 2830 A = nI p) (th : TH h (tx 0) n o) (hj : ∀ j', j ≤ j' → o (5, 0, j', 0) = none) (hn : n + 1 + fsz c ≤ 24576) (hd : fdp c + 1 ≤ d) (hk : k < 128 ∧ fbk c) (hl : fln c ≤ 16384) (kk : ∀ h' o' y', Fq (FS ldF) h h' → h'.I 2830 A = nI (p + 1 + fsz c) → TH h' (tx 0) (n + 1 + fsz c) o' → o' (5, 0, j, 0) = some y' → lvE y' = (k, x, c) ∧ y'.1 = n → (∀ q, q ≠ (5, 0, j, 0) → o' q = o q) → K (.returned (some (.int (nI n)))) h') : MW G d e_X23_loadOne [.ref A] h K := by
  refine st_X23_loadOne fun X oo hG hD _ => ?_
  subst hG; subst hD
  obtain ⟨a1, a2⟩ := sm.at 5 rfl
  obtain ⟨b1, b2⟩ := sm.at 6 rfl
  obtain ⟨c1, c2⟩ := sm.at 7 rfl
  obtain ⟨d1, d2⟩ := sm.at 8 rfl
  have rr' : RWS h ax p ((k, tn k x, fln c) :: rwF c) := rr
  obtain ⟨w1, w2, w3, w4⟩ := rr' 0 _ rfl
  have rc : RWS h ax (p + 1) (rwF c) := (RWS.ap (l := [(k, tn k x, fln c)]) rr').2
  have tT := th.1.1.1.1
  have ix : IX (nI p) 16384 p := IX.mk (by omega) (by omega)
  refine k_X23_loadOne_0 (r2 := ra) (r4 := ra) (r6 := rT) (r8 := a1) (r14 := w1) (r16 := b1) (r22 := w2) (r24 := c1) (r30 := w3) oo ?_
  rw [nI_add]
  have q1 : Fq (FS ldF) h (h.sI 2830 A (nI (p + 1))) := Fq.sI (Fq.refl h) (fsr rfl)
  have s1 : (h.sI 2830 A (nI (p + 1))).I 2830 A = nI (p + 1) := by simp [n_sI, z_sI, tag_sI, I_sI, J_sI, R_sI, EI_sI, EJ_sI, ER_sI, n_sJ, z_sJ, tag_sJ, I_sJ, J_sJ, R_sJ, EI_sJ, EJ_sJ, ER_sJ, n_sR, z_sR, tag_sR, I_sR, J_sR, R_sR, EI_sR, EJ_sR, ER_sR, n_sEI, z_sEI, tag_sEI, I_sEI, J_sEI, R_sEI, EI_sEI, EJ_sEI, ER_sEI, n_sEJ, z_sEJ, tag_sEJ, I_sEJ, J_sEJ, R_sEJ, EI_sEJ, EJ_sEJ, ER_sEJ, n_sER, z_sER, tag_sER, I_sER, J_sER, R_sER, EI_sER, EJ_sER, ER_sER, n_nw, z_nw, tag_nw, I_nw, J_nw, R_nw, EI_nw, EJ_nw, ER_nw]
  have th1 : TH (h.sI 2830 A (nI (p + 1))) (tx 0) n o := th.fr (Fq.sI (P := FS [2830]) (Fq.refl h) (fsr rfl)).1 (FS.no (by decide))
  have rr1 : RWS (h.sI 2830 A (nI (p + 1))) ax p (rwV (k, x, c)) := rr.fs (f := [2830]) (Fq.sI (Fq.refl h) (fsr rfl)) (by decide)
  generalize h.sI 2830 A (nI (p + 1)) = h1 at q1 s1 th1 rr1
  have rc1 : RWS h1 ax (p + 1) (rwF c) := rc.fs q1 (by decide)
  refine thmake_ok (p := (5, 0, j, 0)) (x := x) th1 (hj j (Nat.le_refl _)) (by omega) hk.1 (fun h2 q2 th2 => ?_)
  have q12 : Fq (FS ldF) h h2 := q1.trans (q2.mono fun f a z => by
    unfold FS at z ⊢
    rw [List.contains_iff_mem] at z ⊢
    exact List.mem_cons_of_mem _ z)
  refine k_X23_loadOne_40 oo ?_
  have w42 : h2.EI 1008 (ax 8) p = nI (0 + fln c) := by
    rw [q12.1.EI (FS.n (by decide)), Nat.zero_add]
    exact w4
  refine L X oo K h2 A tx ax j (n + 1) _ p 0 (p + 1) (n, k, x, .leaf) (q12.1.tag t0) (by rw [q12.1.R (FS.n (by decide))]; exact rT) (sm.fs q12 (by decide)) (rc1.fs q2 (by decide)) (by omega) (by rw [q2.1.I (FS.n (by decide))]; exact s1) th2 uO_s (fun j' hj' => by rw [uO_n (fun e => by have : j' = j := congrArg (fun p : Sl => p.2.2.1) e; omega)]; exact hj j' (by omega)) w42 ⟨by omega, by omega⟩ (by omega) hd hk.2 (fun h3 o3 y3 q3 a3 t3 o3' e3 f3 => ?_)
  refine kk h3 o3 y3 (q12.trans q3) a3 t3 o3' ⟨?_, e3.2⟩ (fun q hq => by rw [f3 q hq, uO_n hq])
  rw [e3.1]; rfl
theorem ld_loop : ∀ c : Fo, LDL c
  | .leaf => fun X oo K h A tx ax j n o aa i p y t0 rT sm rr hp ra th hy hj wp haa hn hd hk kk => by
    obtain ⟨d1, d2⟩ := sm.at 8 rfl
    have ix : IX (nI aa) 16384 aa := IX.mk haa.1 (by omega)
    refine k_X23_loadOne_43 (r2 := d1) (r8 := wp) oo (fun _ => ?_) (fun q => absurd ((nI_leI (by omega) (by omega)).mpr (by show i + 0 ≤ i; omega)) q)
    refine k_X23_loadOne_71 oo ?_
    exact kk h o y (Fq.refl h) ra th hy ⟨by show (y.2.1, y.2.2.1, fer y.2.2.2) = (y.2.1, y.2.2.1, fap (fer y.2.2.2) .leaf); rw [fap_leaf], rfl⟩ (fun _ _ => rfl)
  | .inner kd x u c r => fun X oo K h A tx ax j n o aa i p y t0 rT sm rr hp ra th hy hj wp haa hn hd hk kk => by
    obtain ⟨d1, d2⟩ := sm.at 8 rfl
    have ix : IX (nI aa) 16384 aa := IX.mk haa.1 (by omega)
    have ef : fln (.inner kd x u c r : Fo) = fln r + 1 := by simp [fln]; omega
    have es : fsz (.inner kd x u c r : Fo) = 1 + fsz c + fsz r := rfl
    have edd : fdp (.inner kd x u c r : Fo) = max (1 + fdp c) (fdp r) := rfl
    have rr' : RWS h ax p (rwV (kd, x, c) ++ rwF r) := rr
    obtain ⟨ra1, ra2⟩ := rr'.ap
    rw [rwV_l] at ra2
    have vs : vsz (kd, x, c) = 1 + fsz c := rfl
    have lc : fln c ≤ fsz c := fln_sz c
    refine k_X23_loadOne_43 (r2 := d1) (r8 := wp) oo (fun q => absurd ((nI_leI (by omega) (by omega)).mp q) (by omega)) (fun _ => ?_)
    refine k_X23_loadOne_53 (r2 := rT) oo ?_
    refine ld_of (ld_loop c) (k := kd) (x := x) (p := p) (j := j + 1) t0 rT sm ra1 (by omega) ra th (fun j' hj' => hj j' (by omega)) (by omega) (by omega) ⟨hk.1, hk.2.1⟩ (by omega) (fun h1 o1 w q1 a1 t1 ow ew fo => ?_)
    have tT1 := t1.1.1.1.1
    refine k_X23_loadOne_62 oo ?_
    rw [← ew.2]
    refine thadd_ok (p := (5, 0, j, 0)) (r := (5, 0, j + 1, 0)) (pa := []) (x := y) (y := y) (w := w) t1 (by rw [fo _ (fun e => by have : j = j + 1 := congrArg (fun p : Sl => p.2.2.1) e; omega)]; exact hy) rfl ow (fun e => by have : j = j + 1 := congrArg (fun p : Sl => p.2.2.1) e; omega) (fun h2 q2 t2 => ?_)
    have q12 : Fq (FS ldF) h h2 := q1.trans (q2.mono fun f a z => by
      unfold FS at z ⊢
      rw [List.contains_iff_mem] at z ⊢
      exact List.mem_cons_of_mem _ z)
    refine k_X23_loadOne_65 oo ?_
    rw [nI_add]
    refine ld_loop r X oo K h2 A tx ax j (n + 1 + fsz c) _ aa (i + 1) (p + 1 + fsz c) (y.1, y.2.1, y.2.2.1, lof (llo y.2.2.2 ++ [w])) (q12.1.tag t0) (by rw [q12.1.R (FS.n (by decide))]; exact rT) (sm.fs q12 (by decide)) ?_ (by omega) (by rw [q2.1.I (FS.n (by decide))]; exact a1) t2 uO_s (fun j' hj' => ?_) ?_ ⟨haa.1, by omega⟩ (by omega) (by omega) hk.2.2 (fun h3 o3 y3 q3 a3 t3 o3' e3 f3 => ?_)
    · have := ra2.fs q12 (by decide)
      rw [vs] at this
      rw [show p + 1 + fsz c = p + (1 + fsz c) by omega]; exact this
    · rw [uO_n (fun e => by have : j' = j := congrArg (fun p : Sl => p.2.2.1) e; omega)]
      by_cases e : j' = j + 1
      · rw [e, uO_s]
      · rw [uO_n (fun z => e (congrArg (fun p : Sl => p.2.2.1) z)), fo _ (fun z => e (congrArg (fun p : Sl => p.2.2.1) z))]
        exact hj j' hj'
    · rw [q12.1.EI (FS.n (by decide)), wp]
      congr 1; omega
    · refine kk h3 o3 y3 (q12.trans q3) (by rw [a3]; congr 1; omega) (by rw [show n + fsz (.inner kd x u c r : Fo) = n + 1 + fsz c + fsz r by omega]; exact t3) o3' ⟨?_, e3.2⟩ (fun qq hq => ?_)
      · rw [e3.1]
        show (y.2.1, y.2.2.1, fap (fer (lof (llo y.2.2.2 ++ [w]))) r) = (y.2.1, y.2.2.1, fap (fer y.2.2.2) (.inner kd x u c r))
        have : fap (fer (lof (llo y.2.2.2 ++ [w]))) r = fap (fer y.2.2.2) (.inner kd x u c r) := by
          rw [fer_lof, List.map_append, ← flo_fer]
          show fap (fof (flo (fer y.2.2.2) ++ [lvE w])) r = _
          rw [ew.1]
          exact fap_fof (fer y.2.2.2)
        rw [this]
      · rw [f3 qq hq, uO_n hq]
        by_cases e : qq = (5, 0, j + 1, 0)
        · rw [e, uO_s]; exact (hj (j + 1) (by omega)).symm
        · rw [uO_n e]; exact fo qq e
end
