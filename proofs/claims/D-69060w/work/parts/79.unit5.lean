/-! a module, gone over -/
/-- places at which things of a list begin -/
def PA {α : Type} (h : AH) (t a o : Nat) (f : Nat → Pz α) (l : List α) : Prop := ∀ i x, l[i]? = some x → ∃ p q, h.EI t a (o + i) = nI p ∧ p < 2048 ∧ f p = .ok (x, q)
theorem PA.nil {α : Type} {h : AH} {t a o : Nat} {f : Nat → Pz α} : PA h t a o f [] := fun i x hx => by simp at hx
theorem PA.eq {α : Type} {h h' : AH} {t a o : Nat} {f : Nat → Pz α} {l : List α} (s : PA h t a o f l) (e : ∀ j, j < o + l.length → h'.EI t a j = h.EI t a j) : PA h' t a o f l := fun i x hx => by
  obtain ⟨p, q, e1, e2, e3⟩ := s i x hx
  exact ⟨p, q, by rw [e _ (by have := get_lt hx; omega)]; exact e1, e2, e3⟩
theorem PA.snoc {α : Type} {h : AH} {t a o p q : Nat} {f : Nat → Pz α} {l : List α} {x : α} (s : PA h t a o f l) (e : h.EI t a (o + l.length) = nI p) (hp : p < 2048) (hx : f p = .ok (x, q)) : PA h t a o f (l ++ [x]) := fun i y hy => by
  by_cases c : i < l.length
  · rw [List.getElem?_append_left c] at hy; exact s i y hy
  · have : i = l.length := by have := get_lt hy; simp at this; omega
    subst this
    simp at hy
    subst hy
    exact ⟨p, q, e, hp, hx⟩
def US1 (h : AH) (U n : Nat) (B : Nat → Nat) (ss : List Sx) : Prop := h.I 3589 U = nI ss.length ∧ ss.length ≤ 32 ∧ PA h 2144 (U + 2) 0 (rdSt n B) ss
def US2 (h : AH) (U n : Nat) (B : Nat → Nat) (ss : List Sx) (fs : List Fx) : Prop := h.I 3590 U = nI fs.length ∧ fs.length ≤ 32 ∧ PA h 2144 (U + 2) ss.length (rdFo n B) fs
def US3 (h : AH) (U n : Nat) (B : Nat → Nat) (cs : List Cx) : Prop := h.I 3591 U = nI cs.length ∧ cs.length ≤ 32 ∧ PA h 2160 (U + 3) 0 (rdCa n B) cs
def US4 (h : AH) (U n : Nat) (B : Nat → Nat) (es : TL) : Prop := h.I 3592 U = nI es.length ∧ es.length ≤ 32 ∧ PA h 2176 (U + 4) 0 (rdT n B false) es
def US5 (h : AH) (U n : Nat) (B : Nat → Nat) (us : List Ux) : Prop := PA h 2192 (U + 5) 0 (rdU n B) us ∧ (∀ k, k < us.length → h.EI 2208 (U + 6) k = nI (uis (us.take k)).length ∧ h.EI 2208 (U + 6) (k + 1) = nI (uis (us.take (k + 1))).length) ∧ IAt h U 0 (uis us)
/-- the unit holds a module -/
def UM (h : AH) (U n : Nat) (B : Nat → Nat) (m : Md) : Prop := US1 h U n B m.2.1 ∧ US2 h U n B m.2.1 m.2.2.1 ∧ US3 h U n B m.2.2.2.1 ∧ US4 h U n B m.2.2.2.2.1 ∧ (h.I 3593 U = nI m.2.2.2.2.2.length ∧ m.2.2.2.2.2.length ≤ 64 ∧ (uis m.2.2.2.2.2).length ≤ n) ∧ US5 h U n B m.2.2.2.2.2
theorem US1.uq {l : List Nat} {h h' : AH} {U n : Nat} {B : Nat → Nat} {ss : List Sx} (q : Fq (UQ l U) h h') (h1 : l.contains 3589 = false) (h2 : l.contains (10000 + 2144) = false) (s : US1 h U n B ss) : US1 h' U n B ss := ⟨by rw [q.1.I (UQ.n h1)]; exact s.1, s.2.1, s.2.2.eq fun j _ => q.1.EI (UQ.n h2) j⟩
theorem US2.uq {l : List Nat} {h h' : AH} {U n : Nat} {B : Nat → Nat} {ss : List Sx} {fs : List Fx} (q : Fq (UQ l U) h h') (h1 : l.contains 3590 = false) (h2 : l.contains (10000 + 2144) = false) (s : US2 h U n B ss fs) : US2 h' U n B ss fs := ⟨by rw [q.1.I (UQ.n h1)]; exact s.1, s.2.1, s.2.2.eq fun j _ => q.1.EI (UQ.n h2) j⟩
theorem US3.uq {l : List Nat} {h h' : AH} {U n : Nat} {B : Nat → Nat} {cs : List Cx} (q : Fq (UQ l U) h h') (h1 : l.contains 3591 = false) (h2 : l.contains (10000 + 2160) = false) (s : US3 h U n B cs) : US3 h' U n B cs := ⟨by rw [q.1.I (UQ.n h1)]; exact s.1, s.2.1, s.2.2.eq fun j _ => q.1.EI (UQ.n h2) j⟩
theorem US4.uq {l : List Nat} {h h' : AH} {U n : Nat} {B : Nat → Nat} {es : TL} (q : Fq (UQ l U) h h') (h1 : l.contains 3592 = false) (h2 : l.contains (10000 + 2176) = false) (s : US4 h U n B es) : US4 h' U n B es := ⟨by rw [q.1.I (UQ.n h1)]; exact s.1, s.2.1, s.2.2.eq fun j _ => q.1.EI (UQ.n h2) j⟩
def uAG : List Nat := uaF ++ [3589, 3590, 3591, 3592, 3593, 3594, 10000 + 2144, 10000 + 2160, 10000 + 2176, 10000 + 2192, 10000 + 2208, 10000 + 2224]
def pr6 (n : Nat) (m : Md) (p : Nat) : Pz Md := bd (nd (decide (p = n)) 6 p p) fun _ p6 => .ok (m, p6)
def pr5 (n : Nat) (B : Nat → Nat) (num : Nat) (ss : List Sx) (fs : List Fx) (cs : List Cx) (es : TL) (p : Nat) : Pz Md := bd (bd (rdC n B 0 64 p) fun k p => rep (rdU n B) k p) fun us p6 => pr6 n (num, ss, fs, cs, es, us) p6
def pr4 (n : Nat) (B : Nat → Nat) (num : Nat) (ss : List Sx) (fs : List Fx) (cs : List Cx) (p : Nat) : Pz Md := bd (bd (rdC n B 0 32 p) fun k p => rep (rdT n B false) k p) fun es p5 => pr5 n B num ss fs cs es p5
def pr3 (n : Nat) (B : Nat → Nat) (num : Nat) (ss : List Sx) (fs : List Fx) (p : Nat) : Pz Md := bd (bd (rdC n B 0 32 p) fun k p => rep (rdCa n B) k p) fun cs p4 => pr4 n B num ss fs cs p4
def pr2 (n : Nat) (B : Nat → Nat) (num : Nat) (ss : List Sx) (p : Nat) : Pz Md := bd (bd (rdC n B 0 32 p) fun k p => rep (rdFo n B) k p) fun fs p3 => pr3 n B num ss fs p3
def pr1 (n : Nat) (B : Nat → Nat) (num : Nat) (p : Nat) : Pz Md := bd (bd (rdC n B 0 32 p) fun k p => rep (rdSt n B) k p) fun ss p2 => pr2 n B num ss p2
theorem rdM_pr (n : Nat) (B : Nat → Nat) : rdM n B = bd (rdH n B 4 0 0) fun _ p0 => bd (rdN n B 2 0 p0) fun num p1 => pr1 n B num p1 := rfl
def EK (K : Outcome → AH → Prop) (U n : Nat) (B : Nat → Nat) (h : AH) (m : Md) (_ : Nat) : Prop := ∀ h', Fq (UQ uAG U) h h' → UM h' U n B m → h'.I 3587 U = 0 → K (.returned none) h'
/-- a fault, on the way -/
def UEx (K : Outcome → AH → Prop) (U : Nat) (h hx : AH) : Prop := Fq (UQ uAG U) h hx ∧ ∃ w q, hx.I 3587 U = nI w ∧ hx.I 3587 U ≠ 0 ∧ hx.I 3588 U = nI q ∧ UE K uAG U h (.returned none) w q
theorem UEx.go {K : Outcome → AH → Prop} {U : Nat} {h hx : AH} (x : UEx K U h hx) : K (.returned none) hx := by
  obtain ⟨f, w, q, e1, e2, e3, t⟩ := x
  exact t hx f e1 e2 e3
theorem UEx.g {K : Outcome → AH → Prop} {U : Nat} {h hx : AH} (x : UEx K U h hx) : hx.I 3587 U ≠ 0 := by
  obtain ⟨f, w, q, e1, e2, e3, t⟩ := x
  exact e2
theorem UEx.mk {K : Outcome → AH → Prop} {l : List Nat} {U w q : Nat} {h hx h' : AH} (t : UE K uAG U h (.returned none) w q) (fx : Fq (UQ uAG U) h hx) (hl : l.all (fun f => uAG.contains f) = true) (f' : Fq (UQ l U) hx h') (e1 : h'.I 3587 U = nI w) (e2 : h'.I 3587 U ≠ 0) (e3 : h'.I 3588 U = nI q) : UEx K U h h' := ⟨fx.trans (f'.mono (UQ.mono hl)), w, q, e1, e2, e3, t⟩
theorem UEx.st {K : Outcome → AH → Prop} {U f : Nat} {v : Int32} {h hx : AH} (x : UEx K U h hx) (hf : uAG.contains f = true) (h1 : f ≠ 3587) (h2 : f ≠ 3588) : UEx K U h (hx.sI f U v) := by
  obtain ⟨fx, w, q, e1, e2, e3, t⟩ := x
  have i1 : (hx.sI f U v).I 3587 U = hx.I 3587 U := by simp [n_sI, z_sI, tag_sI, I_sI, J_sI, R_sI, EI_sI, EJ_sI, ER_sI, n_sJ, z_sJ, tag_sJ, I_sJ, J_sJ, R_sJ, EI_sJ, EJ_sJ, ER_sJ, n_sR, z_sR, tag_sR, I_sR, J_sR, R_sR, EI_sR, EJ_sR, ER_sR, n_sEI, z_sEI, tag_sEI, I_sEI, J_sEI, R_sEI, EI_sEI, EJ_sEI, ER_sEI, n_sEJ, z_sEJ, tag_sEJ, I_sEJ, J_sEJ, R_sEJ, EI_sEJ, EJ_sEJ, ER_sEJ, n_sER, z_sER, tag_sER, I_sER, J_sER, R_sER, EI_sER, EJ_sER, ER_sER, n_nw, z_nw, tag_nw, I_nw, J_nw, R_nw, EI_nw, EJ_nw, ER_nw]; intro c; exact absurd c.symm h1
  have i2 : (hx.sI f U v).I 3588 U = hx.I 3588 U := by simp [n_sI, z_sI, tag_sI, I_sI, J_sI, R_sI, EI_sI, EJ_sI, ER_sI, n_sJ, z_sJ, tag_sJ, I_sJ, J_sJ, R_sJ, EI_sJ, EJ_sJ, ER_sJ, n_sR, z_sR, tag_sR, I_sR, J_sR, R_sR, EI_sR, EJ_sR, ER_sR, n_sEI, z_sEI, tag_sEI, I_sEI, J_sEI, R_sEI, EI_sEI, EJ_sEI, ER_sEI, n_sEJ, z_sEJ, tag_sEJ, I_sEJ, J_sEJ, R_sEJ, EI_sEJ, EJ_sEJ, ER_sEJ, n_sER, z_sER, tag_sER, I_sER, J_sER, R_sER, EI_sER, EJ_sER, ER_sER, n_nw, z_nw, tag_nw, I_nw, J_nw, R_nw, EI_nw, EJ_nw, ER_nw]; intro c; exact absurd c.symm h2
  exact ⟨fx.sI ⟨hf, Nat.le_refl _, by omega⟩, w, q, by rw [i1]; exact e1, by rw [i1]; exact e2, by rw [i2]; exact e3, t⟩
theorem ob495 {X : Xt} (o : OK e_X29_overAll X) {K : Outcome → AH → Prop} {U : Nat} {h hx : AH} {v1 v2 v3 : Value} (s0 : h.tag U = some (28, 0)) (hd : 6 ≤ X.d) (x : UEx K U h hx) : V X K 495 [.ref U, v1, v2, v3] [] hx := by
  have u' := x.1.1.tag s0
  refine k_X29_overAll_495 o ?_
  refine ubad_ok u' x.g ?_
  refine k_X29_overAll_499 o (fun _ => ?_) (fun c => absurd rfl c)
  refine k_X29_overAll_523 o ?_
  exact x.go
theorem ob445' {X : Xt} (o : OK e_X29_overAll X) {K : Outcome → AH → Prop} {U : Nat} {h hx : AH} {v2 v3 : Value} (s0 : h.tag U = some (28, 0)) (hd : 6 ≤ X.d) (x : UEx K U h hx) (n1 : hx.I 3593 U = nI 0) : V X K 469 [.ref U, .int (nI 0), v2, v3] [] hx := by
  have u' := x.1.1.tag s0
  refine k_X29_overAll_469 o (fun _ => ?_) (fun c => absurd ((nI_leI (by omega) (by omega)).mpr (Nat.le_refl _)) c)
  exact ob495 o s0 hd x
theorem ob445 {X : Xt} (o : OK e_X29_overAll X) {K : Outcome → AH → Prop} {U : Nat} {h hx : AH} {v1 v2 v3 : Value} (s0 : h.tag U = some (28, 0)) (hd : 6 ≤ X.d) (x : UEx K U h hx) : V X K 445 [.ref U, v1, v2, v3] [] hx := by
  have u' := x.1.1.tag s0
  refine k_X29_overAll_445 o ?_
  refine ubad_ok u' x.g ?_
  refine k_X29_overAll_450 o (fun _ => ?_) (fun c => absurd rfl c)
  refine k_X29_overAll_463 o ?_
  refine k_X29_overAll_464 o ?_
  exact ob445' o s0 hd (x.st rfl (by decide) (by decide)) (I_same ..)
theorem ob385' {X : Xt} (o : OK e_X29_overAll X) {K : Outcome → AH → Prop} {U : Nat} {h hx : AH} {v2 v3 : Value} (s0 : h.tag U = some (28, 0)) (hd : 6 ≤ X.d) (x : UEx K U h hx) (n1 : hx.I 3592 U = nI 0) : V X K 409 [.ref U, .int (nI 0), v2, v3] [] hx := by
  have u' := x.1.1.tag s0
  refine k_X29_overAll_409 o (fun _ => ?_) (fun c => absurd ((nI_leI (by omega) (by omega)).mpr (Nat.le_refl _)) c)
  exact ob445 o s0 hd x
theorem ob385 {X : Xt} (o : OK e_X29_overAll X) {K : Outcome → AH → Prop} {U : Nat} {h hx : AH} {v1 v2 v3 : Value} (s0 : h.tag U = some (28, 0)) (hd : 6 ≤ X.d) (x : UEx K U h hx) : V X K 385 [.ref U, v1, v2, v3] [] hx := by
  have u' := x.1.1.tag s0
  refine k_X29_overAll_385 o ?_
  refine ubad_ok u' x.g ?_
  refine k_X29_overAll_390 o (fun _ => ?_) (fun c => absurd rfl c)
  refine k_X29_overAll_403 o ?_
  refine k_X29_overAll_404 o ?_
  exact ob385' o s0 hd (x.st rfl (by decide) (by decide)) (I_same ..)
theorem ob281' {X : Xt} (o : OK e_X29_overAll X) {K : Outcome → AH → Prop} {U : Nat} {h hx : AH} {v2 v3 : Value} (s0 : h.tag U = some (28, 0)) (hd : 6 ≤ X.d) (x : UEx K U h hx) (n1 : hx.I 3591 U = nI 0) : V X K 305 [.ref U, .int (nI 0), v2, v3] [] hx := by
  have u' := x.1.1.tag s0
  refine k_X29_overAll_305 o (fun _ => ?_) (fun c => absurd ((nI_leI (by omega) (by omega)).mpr (Nat.le_refl _)) c)
  exact ob385 o s0 hd x
theorem ob281 {X : Xt} (o : OK e_X29_overAll X) {K : Outcome → AH → Prop} {U : Nat} {h hx : AH} {v1 v2 v3 : Value} (s0 : h.tag U = some (28, 0)) (hd : 6 ≤ X.d) (x : UEx K U h hx) : V X K 281 [.ref U, v1, v2, v3] [] hx := by
  have u' := x.1.1.tag s0
  refine k_X29_overAll_281 o ?_
  refine ubad_ok u' x.g ?_
  refine k_X29_overAll_286 o (fun _ => ?_) (fun c => absurd rfl c)
  refine k_X29_overAll_299 o ?_
  refine k_X29_overAll_300 o ?_
  exact ob281' o s0 hd (x.st rfl (by decide) (by decide)) (I_same ..)
theorem ob200' {X : Xt} (o : OK e_X29_overAll X) {K : Outcome → AH → Prop} {U : Nat} {h hx : AH} {v2 v3 : Value} (s0 : h.tag U = some (28, 0)) (hd : 6 ≤ X.d) (x : UEx K U h hx) (n1 : hx.I 3590 U = nI 0) : V X K 224 [.ref U, .int (nI 0), v2, v3] [] hx := by
  have u' := x.1.1.tag s0
  refine k_X29_overAll_224 o (fun _ => ?_) (fun c => absurd ((nI_leI (by omega) (by omega)).mpr (Nat.le_refl _)) c)
  exact ob281 o s0 hd x
theorem ob200 {X : Xt} (o : OK e_X29_overAll X) {K : Outcome → AH → Prop} {U : Nat} {h hx : AH} {v1 v2 v3 : Value} (s0 : h.tag U = some (28, 0)) (hd : 6 ≤ X.d) (x : UEx K U h hx) : V X K 200 [.ref U, v1, v2, v3] [] hx := by
  have u' := x.1.1.tag s0
  refine k_X29_overAll_200 o ?_
  refine ubad_ok u' x.g ?_
  refine k_X29_overAll_205 o (fun _ => ?_) (fun c => absurd rfl c)
  refine k_X29_overAll_218 o ?_
  refine k_X29_overAll_219 o ?_
  exact ob200' o s0 hd (x.st rfl (by decide) (by decide)) (I_same ..)
theorem ob93' {X : Xt} (o : OK e_X29_overAll X) {K : Outcome → AH → Prop} {U : Nat} {h hx : AH} {v2 v3 : Value} (s0 : h.tag U = some (28, 0)) (hd : 6 ≤ X.d) (x : UEx K U h hx) (n1 : hx.I 3589 U = nI 0) : V X K 117 [.ref U, .int (nI 0), v2, v3] [] hx := by
  have u' := x.1.1.tag s0
  refine k_X29_overAll_117 o (fun _ => ?_) (fun c => absurd ((nI_leI (by omega) (by omega)).mpr (Nat.le_refl _)) c)
  exact ob200 o s0 hd x
theorem ob93 {X : Xt} (o : OK e_X29_overAll X) {K : Outcome → AH → Prop} {U : Nat} {h hx : AH} {v1 v2 v3 : Value} (s0 : h.tag U = some (28, 0)) (hd : 6 ≤ X.d) (x : UEx K U h hx) : V X K 93 [.ref U, v1, v2, v3] [] hx := by
  have u' := x.1.1.tag s0
  refine k_X29_overAll_93 o ?_
  refine ubad_ok u' x.g ?_
  refine k_X29_overAll_98 o (fun _ => ?_) (fun c => absurd rfl c)
  refine k_X29_overAll_111 o ?_
  refine k_X29_overAll_112 o ?_
  exact ob93' o s0 hd (x.st rfl (by decide) (by decide)) (I_same ..)
theorem ob80 {X : Xt} (o : OK e_X29_overAll X) {K : Outcome → AH → Prop} {U : Nat} {h hx : AH} {v1 v2 v3 : Value} (s0 : h.tag U = some (28, 0)) (hd : 6 ≤ X.d) (x : UEx K U h hx) : V X K 80 [.ref U, v1, v2, v3] [] hx := by
  have u' := x.1.1.tag s0
  refine k_X29_overAll_80 o ?_
  refine ubad_ok u' x.g ?_
  refine k_X29_overAll_84 o (fun _ => ?_) (fun c => absurd rfl c)
  exact ob93 o s0 hd x
theorem op6 {X : Xt} (o : OK e_X29_overAll X) {K : Outcome → AH → Prop} {U n p : Nat} {B : Nat → Nat} {h hx : AH} {v1 v2 v3 : Value} (hs : SU h U n B) (hd : 6 ≤ X.d) (fx : Fq (UQ uAG U) h hx) (ax : hx.I 3586 U = nI p) (hp : p ≤ n) (gx : hx.I 3587 U = 0) {m : Md} (mx : UM hx U n B m) (kx : PQ (pr6 n m p) (EK K U n B h) (UE K uAG U h (.returned none))) : V X K 495 [.ref U, v1, v2, v3] [] hx := by
  have sx := hs.uq fx rfl
  have hn := hs.2.2.1
  have u' := sx.1.1
  have ul := sx.2.1
  have kx := PQ_bd.mp kx
  refine k_X29_overAll_495 o ?_
  refine ugood_ok u' gx ?_
  refine k_X29_overAll_499 o (fun c => absurd c (by decide)) (fun _ => ?_)
  refine k_X29_overAll_502 o (fun c => ?_) (fun c => ?_)
  · have c := (nI_leI (by omega) (by omega)).mp c
    rw [decide_eq_true (by omega)] at kx
    have kx := PQ_nt.mp kx
    refine k_X29_overAll_523 o ?_
    exact kx hx fx mx gx
  · have c : p < n := Nat.not_le.mp fun z => c ((nI_leI (by omega) (by omega)).mpr z)
    rw [decide_eq_false (by omega)] at kx
    have kx := PQ_nf.mp kx
    refine k_X29_overAll_513 o ?_
    refine ufail_ok u' gx (by decide) fun h' f' e1 e2 e3 => ?_
    refine k_X29_overAll_523 o ?_
    exact kx h' (fx.trans (f'.mono (UQ.mono rfl))) e1 e2 e3
theorem op5 {X : Xt} (o : OK e_X29_overAll X) {K : Outcome → AH → Prop} {U n p : Nat} {B : Nat → Nat} {h hx : AH} {v1 v2 v3 : Value} (hs : SU h U n B) (hd : 6 ≤ X.d) (fx : Fq (UQ uAG U) h hx) (ax : hx.I 3586 U = nI p) (hp : p ≤ n) (gx : hx.I 3587 U = 0) {num : Nat} {ss : List Sx} {fs : List Fx} {cs : List Cx} {es : TL} (lx : hx.I 3594 U = nI 0) (x1 : US1 hx U n B ss) (x2 : US2 hx U n B ss fs) (x3 : US3 hx U n B cs) (x4 : US4 hx U n B es) (kx : PQ (pr5 n B num ss fs cs es p) (EK K U n B h) (UE K uAG U h (.returned none))) : V X K 445 [.ref U, v1, v2, v3] [] hx := by
  have sx := hs.uq fx rfl
  have hn := hs.2.2.1
  have s0 := hs.1.1
  have u' := sx.1.1
  have kx := PQ_bd.mp (PQ_bd.mp kx)
  refine k_X29_overAll_445 o ?_
  refine ugood_ok u' gx ?_
  refine k_X29_overAll_450 o (fun c => absurd c (by decide)) (fun _ => ?_)
  refine k_X29_overAll_453 o ?_
  refine ucount_ok sx ax hp gx (by omega) (by omega) (by omega) (kx.mono (fun kn p1 e k1 hp1 hkn h1 f1 a1 => ?_) (fun w q t h' f' e1 e2 e3 => ?_))
  rotate_left
  · have xe := UEx.mk t fx rfl f' e1 e2 e3
    have u1 := xe.1.1.tag s0
    refine k_X29_overAll_460 o ?_
    refine k_X29_overAll_464 o ?_
    exact ob445' o s0 hd (xe.st rfl (by decide) (by decide)) (I_same ..)
  obtain ⟨-, rfl, hpn, -⟩ := rdC_ok e
  refine k_X29_overAll_460 o ?_
  have F1 := fx.trans (f1.mono (UQ.mono (l' := uAG) rfl))
  have u1 := F1.1.tag s0
  refine k_X29_overAll_464 o ?_
  have f2 : Fq (UQ [3586, 3593] U) hx (h1.sI 3593 U (nI kn)) := (f1.mono (UQ.mono rfl)).sI ⟨rfl, by omega, by omega⟩
  have n2 : (h1.sI 3593 U (nI kn)).I 3593 U = nI kn := I_same ..
  have a2 : (h1.sI 3593 U (nI kn)).I 3586 U = nI (p + 1) := by simpa [n_sI, z_sI, tag_sI, I_sI, J_sI, R_sI, EI_sI, EJ_sI, ER_sI, n_sJ, z_sJ, tag_sJ, I_sJ, J_sJ, R_sJ, EI_sJ, EJ_sJ, ER_sJ, n_sR, z_sR, tag_sR, I_sR, J_sR, R_sR, EI_sR, EJ_sR, ER_sR, n_sEI, z_sEI, tag_sEI, I_sEI, J_sEI, R_sEI, EI_sEI, EJ_sEI, ER_sEI, n_sEJ, z_sEJ, tag_sEJ, I_sEJ, J_sEJ, R_sEJ, EI_sEJ, EJ_sEJ, ER_sEJ, n_sER, z_sER, tag_sER, I_sER, J_sER, R_sER, EI_sER, EJ_sER, ER_sER, n_nw, z_nw, tag_nw, I_nw, J_nw, R_nw, EI_nw, EJ_nw, ER_nw] using a1
  generalize h1.sI 3593 U (nI kn) = h2 at *
  have loop : ∀ k j q acc hy v2 v3, k + j = kn → acc.length = j → (uis acc).length ≤ q → q ≤ n → Fq (UQ (ufF ++ [3593]) U) hx hy → hy.I 3593 U = nI kn → hy.I 3586 U = nI q → hy.I 3594 U = nI (uis acc).length → US5 hy U n B acc → PQ (rep (rdU n B) k q) (fun l p' => PQ (pr6 n (num, ss, fs, cs, es, acc ++ l) p') (EK K U n B h) (UE K uAG U h (.returned none))) (UE K uAG U h (.returned none)) → V X K 469 [.ref U, .int (nI j), v2, v3] [] hy := by
    intro k
    induction k with
    | zero =>
      intro j q acc hy v2 v3 hj hacc hiq hq fy ny ay ly sy ky
      have Fy := fx.trans (fy.mono (UQ.mono (l' := uAG) rfl))
      have u3 := Fy.1.tag s0
      refine k_X29_overAll_469 o (fun _ => ?_) (fun c => ?_)
      rotate_left
      · exact absurd ((nI_leI (by omega) (by omega)).mpr (by omega)) c
      have gy : hy.I 3587 U = 0 := by rw [fy.1.I (UQ.n rfl)]; exact gx
      have ky : PQ (pr6 n (num, ss, fs, cs, es, acc ++ []) q) (EK K U n B h) (UE K uAG U h (.returned none)) := ky
      rw [List.append_nil] at ky
      refine op6 o hs hd Fy ay hq gy ⟨x1.uq fy rfl rfl, x2.uq fy rfl rfl, x3.uq fy rfl rfl, x4.uq fy rfl rfl, ⟨?_, ?_, ?_⟩, sy⟩ ky
      · show hy.I 3593 U = nI acc.length
        rw [hacc, ny]; congr 1; omega
      · show acc.length ≤ 64
        omega
      · show (uis acc).length ≤ n
        omega
    | succ k ih =>
      intro j q acc hy v2 v3 hj hacc hiq hq fy ny ay ly sy ky
      have Fy := fx.trans (fy.mono (UQ.mono (l' := uAG) rfl))
      have s3 := hs.uq Fy rfl
      have u3 := s3.1.1
      have gy : hy.I 3587 U = 0 := by rw [fy.1.I (UQ.n rfl)]; exact gx
      have ky := PQ_bd.mp ky
      refine k_X29_overAll_469 o (fun c => ?_) (fun _ => ?_)
      · exact absurd ((nI_leI (by omega) (by omega)).mp c) (by omega)
      refine k_X29_overAll_477 o ?_
      refine ugood_ok u3 gy ?_
      refine k_X29_overAll_481 o (fun c => absurd c (by decide)) (fun _ => ?_)
      refine k_X29_overAll_484 o ?_
      refine uovF_ok s3 ay hq gy ly hiq (by omega) (by omega) (ky.mono (fun u p2 eu k2 b1 b2 b3 h4 f4 a4 r4 => ?_) (fun w q t h' f' e1 e2 e3 => ?_))
      · refine k_X29_overAll_489 o ?_
        rw [nI_add]
        obtain ⟨⟨r1, r2, r3⟩, ⟨r5, r6⟩, r7, r8, r9⟩ := r4
        have eui : uis (acc ++ [u]) = uis acc ++ ui u := uis_s acc u
        refine ih (j + 1) p2 (acc ++ [u]) h4 _ _ (by omega) (by simp; omega) (by rw [eui]; simp; omega) b2 (fy.trans (f4.mono (UQ.mono rfl))) (by rw [f4.1.I (UQ.n rfl)]; exact ny) a4 (by rw [eui, List.length_append]; exact r1) ⟨?_, fun i hi => ?_, fun i x hx => ?_⟩ ?_
        · refine PA.snoc (PA.eq sy.1 fun i hi => r6 i (by omega)) (p := q) ?_ (by omega) eu
          rw [Nat.zero_add, hacc]; exact r5
        · rcases Nat.lt_or_ge i acc.length with c | c
          · obtain ⟨g1, g2⟩ := sy.2.1 i c
            refine ⟨by rw [r9 i (by omega), List.take_append_of_le_length (by omega)]; exact g1, ?_⟩
            rw [List.take_append_of_le_length (by omega), ← g2]
            rcases Nat.lt_or_ge (i + 1) j with c2 | c2
            · exact r9 _ c2
            · have : i + 1 = j := by omega
              rw [this] at g2 ⊢
              rw [r7, g2, List.take_of_length_le (by omega)]
          · have : i = j := by simp at hi; omega
            subst this
            refine ⟨by rw [r7, List.take_append_of_le_length (by omega), List.take_of_length_le (by omega)], ?_⟩
            rw [r8, List.take_of_length_le (by simp; omega), eui, List.length_append]
        · rw [eui] at hx
          rcases Nat.lt_or_ge i (uis acc).length with c | c
          · rw [List.getElem?_append_left c] at hx
            have := sy.2.2 i x hx
            rw [Nat.zero_add] at this ⊢
            rw [r3 i c]; exact this
          · rw [List.getElem?_append_right c] at hx
            have := r2 _ x hx
            rw [Nat.zero_add, ← this]; congr 1; omega
        · refine (PQ_bd.mp k2).mono (fun l p' _ z => ?_) (fun _ _ z => z)
          have z : PQ (pr6 n (num, ss, fs, cs, es, acc ++ (u :: l)) p') (EK K U n B h) (UE K uAG U h (.returned none)) := z
          rw [List.append_assoc]; exact z
      · have xe := UEx.mk t Fy rfl f' e1 e2 e3
        have u4 := xe.1.1.tag s0
        refine k_X29_overAll_489 o ?_
        refine k_X29_overAll_469 o (fun _ => ?_) (fun _ => ?_)
        · exact ob495 o s0 hd xe
        · refine k_X29_overAll_477 o ?_
          refine ubad_ok u4 e2 ?_
          refine k_X29_overAll_481 o (fun _ => ?_) (fun c => absurd rfl c)
          exact ob495 o s0 hd xe
  refine loop kn 0 (p + 1) [] h2 _ _ (by omega) rfl (Nat.zero_le _) hp1 (f2.mono (UQ.mono rfl)) n2 a2 ?_ ⟨PA.nil, fun i hi => absurd hi (Nat.not_lt_zero _), fun i x hx => by simp [uis] at hx⟩ k1
  rw [f2.1.I (UQ.n rfl)]; exact lx
