/-! the twin's trees: last ones, sizes, copies, likeness, changes -/
theorem TF.ap : ∀ {h : AH} {T : Nat} {c0 g : LF} {p : Int32}, TF h T (fap c0 g) p → c0 ≠ .leaf → ∃ z, flst c0 none = some z ∧ TF h T g (h.EI 1696 (T + 5) z) ∧ ((fad (fap c0 g)).Nodup → TF (h.sEI 1696 (T + 5) z (-1)) T c0 p)
  | h, T, .leaf, g, p, _, e => absurd rfl e
  | h, T, .inner k x _ c .leaf, g, p, ⟨e1, e2, e3, e4, e5, e6⟩, _ => by
    refine ⟨x.1, rfl, e6, fun hn => ?_⟩
    have hc : x.1 ∉ fad c := by simp only [fap, fad, List.nodup_cons, List.mem_append] at hn; grind
    have f : TU T (fun j => j = x.1) h (h.sEI 1696 (T + 5) x.1 (-1)) := (TU.refl h).nx rfl
    refine ⟨e1, by simp [n_sI, z_sI, tag_sI, I_sI, J_sI, R_sI, EI_sI, EJ_sI, ER_sI, n_sJ, z_sJ, tag_sJ, I_sJ, J_sJ, R_sJ, EI_sJ, EJ_sJ, ER_sJ, n_sR, z_sR, tag_sR, I_sR, J_sR, R_sR, EI_sR, EJ_sR, ER_sR, n_sEI, z_sEI, tag_sEI, I_sEI, J_sEI, R_sEI, EI_sEI, EJ_sEI, ER_sEI, n_sEJ, z_sEJ, tag_sEJ, I_sEJ, J_sEJ, R_sEJ, EI_sEJ, EJ_sEJ, ER_sEJ, n_sER, z_sER, tag_sER, I_sER, J_sER, R_sER, EI_sER, EJ_sER, ER_sER, n_nw, z_nw, tag_nw, I_nw, J_nw, R_nw, EI_nw, EJ_nw, ER_nw]; exact e2, e3, e4, ?_, ?_⟩
    · have : (h.sEI 1696 (T + 5) x.1 (-1)).EI 1680 (T + 4) x.1 = h.EI 1680 (T + 4) x.1 := by simp [n_sI, z_sI, tag_sI, I_sI, J_sI, R_sI, EI_sI, EJ_sI, ER_sI, n_sJ, z_sJ, tag_sJ, I_sJ, J_sJ, R_sJ, EI_sJ, EJ_sJ, ER_sJ, n_sR, z_sR, tag_sR, I_sR, J_sR, R_sR, EI_sR, EJ_sR, ER_sR, n_sEI, z_sEI, tag_sEI, I_sEI, J_sEI, R_sEI, EI_sEI, EJ_sEI, ER_sEI, n_sEJ, z_sEJ, tag_sEJ, I_sEJ, J_sEJ, R_sEJ, EI_sEJ, EJ_sEJ, ER_sEJ, n_sER, z_sER, tag_sER, I_sER, J_sER, R_sER, EI_sER, EJ_sER, ER_sER, n_nw, z_nw, tag_nw, I_nw, J_nw, R_nw, EI_nw, EJ_nw, ER_nw]
      rw [this]; exact TF.tu f e5 fun a ha q => hc (q ▸ ha)
    · exact EI_same ..
  | h, T, .inner k x _ c (.inner k2 x2 u2 c2 r2), g, p, ⟨e1, e2, e3, e4, e5, e6⟩, _ => by
    obtain ⟨z, hz, hg, hr⟩ := TF.ap (c0 := .inner k2 x2 u2 c2 r2) (g := g) e6 (by simp)
    refine ⟨z, hz, hg, fun hn => ?_⟩
    have hin : z ∈ fad (.inner k2 x2 u2 c2 r2) := by
      rcases flst_in (b := .inner k2 x2 u2 c2 r2) (d := none) (z := z) hz with q | q
      · exact q
      · cases q
    have hin' : z ∈ fad (fap (.inner k2 x2 u2 c2 r2) g) := by rw [fad_ap]; exact List.mem_append_left _ hin
    have hn0 : (x.1 :: (fad c ++ fad (fap (.inner k2 x2 u2 c2 r2) g))).Nodup := hn
    have hn2 := (List.nodup_append.mp (List.nodup_cons.mp hn0).2).2.1
    have hzx : ¬ (x.1 = z) := fun q => by subst q; exact (List.nodup_cons.mp hn0).1 (List.mem_append_right _ hin')
    have hc : z ∉ fad c := fun q => (List.nodup_append.mp (List.nodup_cons.mp hn0).2).2.2 z q z hin' rfl
    have f : TU T (fun j => j = z) h (h.sEI 1696 (T + 5) z (-1)) := (TU.refl h).nx rfl
    obtain ⟨a1, a2, a3, a4, a5⟩ := f.2 x.1 hzx
    refine ⟨e1, a1.trans e2, a2.trans e3, a3.trans e4, by rw [a4]; exact TF.tu f e5 fun a ha q => hc (q ▸ ha), ?_⟩
    rw [a5]; exact hr hn2
theorem TF.nth : ∀ {h : AH} {T : Nat} {c0 : LF} {p : Int32} {kb b : Nat} {y : Int64 × Int64} {cb : LF}, TF h T (fap c0 (.inner kb (b, y) () cb .leaf)) p → TW h T b kb y cb ∧ h.EI 1696 (T + 5) b = -1
  | h, T, .leaf, p, kb, b, y, cb, ⟨e1, e2, e3, e4, e5, e6⟩ => ⟨⟨e1.2, e2, e3, e4, e5⟩, e6⟩
  | h, T, .inner k x u c r, p, kb, b, y, cb, ⟨e1, e2, e3, e4, e5, e6⟩ => TF.nth (c0 := r) e6
theorem ttakeLast_ok {G : Gt} {d : Nat} {h : AH} {K : Outcome → AH → Prop} {T a b kd kb : Nat} {x y : Int64 × Int64} {c0 cb : LF} (hs : ST h T) (hv : TW h T a kd x (fap c0 (.inner kb (b, y) () cb .leaf))) (hn : (a :: (fad c0 ++ b :: fad cb)).Nodup)
    (kk : ∀ h', TU T (fun j => j = a ∨ j ∈ fad c0) h h' → h'.I 2949 T = h.I 2949 T → TW h' T a kd x c0 → TW h' T b kb y cb → K (.returned (some (.int (nI b)))) h') : MW G d e_X24_takeLast [.ref T, .int (nI a)] h K := by
  refine st_X24_takeLast fun X o hG hD hf => ?_
  obtain ⟨⟨e1, e2, e3, e4, e5, e6⟩, e7, e8, e9, e10, e11⟩ := id hs
  obtain ⟨v1, v2, v3, v4, v5⟩ := id hv
  have ixa : IX (nI a) 24576 a := IX.mk v1 (by omega)
  obtain ⟨hb, hbn⟩ := TF.nth v5
  have hap : fad (fap c0 (.inner kb (b, y) () cb .leaf)) = fad c0 ++ b :: fad cb := by rw [fad_ap]; simp [fad]
  simp only [List.nodup_cons, List.mem_append, List.mem_cons] at hn
  have ixb : IX (nI b) 24576 b := IX.mk hb.1 (by omega)
  have loop : ∀ (g : LF) (p bf : Int32), TF h T (fap g (.inner kb (b, y) () cb .leaf)) p →
      ((c0 = g ∧ bf = -1) ∨ (∃ z, flst c0 none = (match g with | .leaf => some z | _ => flst g none) ∧ c0 ≠ .leaf ∧ (g = .leaf → bf = nI z ∧ z < 24576))) → V X K 9 [.ref T, .int (nI a), .int p, .int bf] [] h := by
    intro g
    induction g with
    | leaf =>
      intro p bf hg hc
      obtain ⟨⟨rfl, p2⟩, p3, p4, p5, p6, p7⟩ := hg
      have p7' : h.EI 1696 (T + 5) b = -1 := p7
      refine k_X24_takeLast_9 o (fun qq => ?_) (fun qq => ?_)
      rotate_left
      · exact absurd rfl qq
      rcases hc with ⟨q1, q2⟩ | ⟨z, q1, q2, q3⟩
      · subst q1; subst q2
        refine k_X24_takeLast_31 o (fun c2 => ?_) (fun c2 => ?_)
        · exact absurd rfl c2
        refine k_X24_takeLast_36 o ?_
        have f : TU T (fun j => j = a) h (h.sEI 1680 (T + 4) a (-1)) := (TU.refl h).fi rfl
        refine k_X24_takeLast_53 o ?_
        refine (kk _ (f.mono fun j q => Or.inl q) rfl ⟨v1, by simp [n_sI, z_sI, tag_sI, I_sI, J_sI, R_sI, EI_sI, EJ_sI, ER_sI, n_sJ, z_sJ, tag_sJ, I_sJ, J_sJ, R_sJ, EI_sJ, EJ_sJ, ER_sJ, n_sR, z_sR, tag_sR, I_sR, J_sR, R_sR, EI_sR, EJ_sR, ER_sR, n_sEI, z_sEI, tag_sEI, I_sEI, J_sEI, R_sEI, EI_sEI, EJ_sEI, ER_sEI, n_sEJ, z_sEJ, tag_sEJ, I_sEJ, J_sEJ, R_sEJ, EI_sEJ, EJ_sEJ, ER_sEJ, n_sER, z_sER, tag_sER, I_sER, J_sER, R_sER, EI_sER, EJ_sER, ER_sER, n_nw, z_nw, tag_nw, I_nw, J_nw, R_nw, EI_nw, EJ_nw, ER_nw]; exact v2, v3, v4, EI_same ..⟩ (hb.tu f (by simp only [List.mem_cons]; simp only [fad, List.not_mem_nil, false_or] at hn; grind)))
      · obtain ⟨rfl, hz⟩ := q3 rfl
        have q1 : flst c0 none = some z := q1
        have ixz : IX (nI z) 24576 z := IX.mk hz (by omega)
        obtain ⟨z', z1, z2, z3⟩ := TF.ap v5 q2
        rw [q1] at z1
        cases z1
        have hzc : z ∈ fad c0 := by
          rcases flst_in q1 with q | q
          · exact q
          · cases q
        refine k_X24_takeLast_31 o (fun c2 => ?_) (fun c2 => ?_)
        rotate_left
        · exact absurd c2 (nI_m1 hz)
        refine k_X24_takeLast_46 o ?_
        have f : TU T (fun j => j = z) h (h.sEI 1696 (T + 5) z (-1)) := (TU.refl h).nx rfl
        have haz : a ≠ z := fun q => by subst q; exact hn.1 (Or.inl hzc)
        have nd := List.nodup_append.mp hn.2
        refine k_X24_takeLast_53 o ?_
        refine (kk _ (f.mono fun j q => Or.inr (by rw [q]; exact hzc)) rfl ⟨v1, by simp [n_sI, z_sI, tag_sI, I_sI, J_sI, R_sI, EI_sI, EJ_sI, ER_sI, n_sJ, z_sJ, tag_sJ, I_sJ, J_sJ, R_sJ, EI_sJ, EJ_sJ, ER_sJ, n_sR, z_sR, tag_sR, I_sR, J_sR, R_sR, EI_sR, EJ_sR, ER_sR, n_sEI, z_sEI, tag_sEI, I_sEI, J_sEI, R_sEI, EI_sEI, EJ_sEI, ER_sEI, n_sEJ, z_sEJ, tag_sEJ, I_sEJ, J_sEJ, R_sEJ, EI_sEJ, EJ_sEJ, ER_sEJ, n_sER, z_sER, tag_sER, I_sER, J_sER, R_sER, EI_sER, EJ_sER, ER_sER, n_nw, z_nw, tag_nw, I_nw, J_nw, R_nw, EI_nw, EJ_nw, ER_nw]; exact v2, v3, v4, ?_⟩ (hb.tu f fun j hj q => nd.2.2 z hzc j hj (by rw [q])))
        have : (h.sEI 1696 (T + 5) z (-1)).EI 1680 (T + 4) a = h.EI 1680 (T + 4) a := by simp [n_sI, z_sI, tag_sI, I_sI, J_sI, R_sI, EI_sI, EJ_sI, ER_sI, n_sJ, z_sJ, tag_sJ, I_sJ, J_sJ, R_sJ, EI_sJ, EJ_sJ, ER_sJ, n_sR, z_sR, tag_sR, I_sR, J_sR, R_sR, EI_sR, EJ_sR, ER_sR, n_sEI, z_sEI, tag_sEI, I_sEI, J_sEI, R_sEI, EI_sEI, EJ_sEI, ER_sEI, n_sEJ, z_sEJ, tag_sEJ, I_sEJ, J_sEJ, R_sEJ, EI_sEJ, EJ_sEJ, ER_sEJ, n_sER, z_sER, tag_sER, I_sER, J_sER, R_sER, EI_sER, EJ_sER, ER_sER, n_nw, z_nw, tag_nw, I_nw, J_nw, R_nw, EI_nw, EJ_nw, ER_nw]
        rw [this]
        exact z3 (by rw [hap]; exact hn.2)
    | inner k' x' u c' r ihc ihr =>
      intro p bf hg hc
      obtain ⟨⟨rfl, p2⟩, p3, p4, p5, p6, p7⟩ := hg
      have ix : IX (nI x'.1) 24576 x'.1 := IX.mk p2 (by omega)
      have hne : h.EI 1696 (T + 5) x'.1 ≠ -1 := by
        have p7' : TF h T (fap r (.inner kb (b, y) () cb .leaf)) (h.EI 1696 (T + 5) x'.1) := p7
        cases r with
        | leaf => obtain ⟨⟨q1, q2⟩, -⟩ := p7'; rw [q1]; exact nI_m1 q2
        | inner k2 x2 u2 c2 r2 => obtain ⟨⟨q1, q2⟩, -⟩ := p7'; rw [q1]; exact nI_m1 q2
      refine k_X24_takeLast_9 o (fun qq => ?_) (fun qq => ?_)
      · exact absurd qq hne
      refine k_X24_takeLast_19 o ?_
      refine ihr _ _ p7 (Or.inr ⟨x'.1, ?_, ?_, fun q => ⟨rfl, p2⟩⟩)
      · rcases hc with ⟨q1, q2⟩ | ⟨z, q1, q2, q3⟩
        · subst q1; cases r <;> rfl
        · rw [q1]; cases r <;> rfl
      · rcases hc with ⟨q1, q2⟩ | ⟨z, q1, q2, q3⟩
        · subst q1; simp
        · exact q2
  refine k_X24_takeLast_0 o ?_
  exact loop c0 _ _ v5 (Or.inl ⟨rfl, rfl⟩)
theorem tsize_loop {T : Nat} : ∀ (g : LF) {X : Xt} (o : OK e_X24_sizeOf X) {K : Outcome → AH → Prop} {h : AH} {v : Value} {p : Int32} {n : Nat}, ST h T → TF h T g p → fdp g ≤ X.d → K (.returned (some (.int (nI (n + fsz g))))) h → V X K 9 [.ref T, v, .int (nI n), .int p] [] h
  | .leaf, X, o, K, h, v, p, n, hs, hr, hd, k => by
    cases hr
    refine k_X24_sizeOf_9 o (fun qq => ?_) (fun qq => ?_)
    · refine k_X24_sizeOf_32 o ?_
      refine (k)
    · exact absurd rfl qq
  | .inner kk x _ c r, X, o, K, h, v, p, n, hs, ⟨⟨e0, e1⟩, e2, e3, e4, e5, e6⟩, hd, k => by
    subst e0
    simp only [fdp] at hd
    obtain ⟨⟨i1, i2, i3, i4, i5, i6⟩, i7, i8, i9, i10, i11⟩ := id hs
    have ix : IX (nI x.1) 24576 x.1 := IX.mk e1 (by omega)
    refine k_X24_sizeOf_9 o (fun c1 => ?_) (fun c1 => ?_)
    · exact absurd c1 (nI_m1 e1)
    refine k_X24_sizeOf_14 o ?_
    refine st_X24_sizeOf fun X' o' hG hD _ => ?_
    refine k_X24_sizeOf_0 o' (tsize_loop c o' hs e5 (by omega) ?_)
    refine k_X24_sizeOf_20 o ?_
    rw [nI_add]
    refine tsize_loop r o hs e6 (by omega) ?_
    simp only [fsz] at k
    rw [show n + (1 + fsz c) + fsz r = n + (1 + fsz c + fsz r) by omega]; exact k
theorem tsize_ok {G : Gt} {d : Nat} {h : AH} {K : Outcome → AH → Prop} {T a k : Nat} {x : Int64 × Int64} {c : LF} (hs : ST h T) (hv : TW h T a k x c) (hd : fdp c ≤ d) (kk : K (.returned (some (.int (nI (1 + fsz c))))) h) : MW G d e_X24_sizeOf [.ref T, .int (nI a)] h K := by
  obtain ⟨e2, e3, e4, e5, e6⟩ := hv
  obtain ⟨⟨i1, i2, i3, i4, i5, i6⟩, i7, i8, i9, i10, i11⟩ := id hs
  have ix : IX (nI a) 24576 a := IX.mk e2 (by omega)
  exact st_X24_sizeOf fun X o hG hD _ => k_X24_sizeOf_0 o (tsize_loop c o hs e6 (by omega) kk)
def fbk {α : Type} : Std.DTreeMap.Internal.Impl α (fun _ => Unit) → Prop
  | .leaf => True
  | .inner k _ _ c r => k < 128 ∧ fbk c ∧ fbk r
def TCopyOk (c : LF) : Prop := ∀ (G : Gt) (d T a kd n : Nat) (x : Int64 × Int64) (h : AH) (K : Outcome → AH → Prop), ST h T → TW h T a kd x c → kd < 128 → fbk c → h.I 2949 T = nI n → (∀ y ∈ a :: fad c, y < n) → n + (1 + fsz c) ≤ 24576 → fdp c + 2 ≤ d →
  (∀ h' c', TU T (fun j => n ≤ j ∧ j < n + (1 + fsz c)) h h' → h'.I 2949 T = nI (n + (1 + fsz c)) → TW h' T n kd x c' → fer c' = fer c → (∀ y ∈ fad c', n < y ∧ y < n + (1 + fsz c)) → (fad c').Nodup → K (.returned (some (.int (nI n)))) h') → MW G d e_X24_copy [.ref T, .int (nI a)] h K
def TCopyLoop (g : LF) : Prop := ∀ (T n0 kd m : Nat) (x : Int64 × Int64) (v1 : Value) (X : Xt) (_ : OK e_X24_copy X) (K : Outcome → AH → Prop) (h : AH) (b : LF) (p : Int32), ST h T → TW h T n0 kd x b → TF h T g p → fbk g → h.I 2949 T = nI m → n0 < m → (∀ y ∈ fad g, y < n0) → (∀ y ∈ fad b, n0 < y ∧ y < m) → (fad b).Nodup → m + fsz g ≤ 24576 → fdp g + 2 ≤ X.d →
  (∀ h' b', TU T (fun j => n0 ≤ j ∧ j < m + fsz g) h h' → h'.I 2949 T = nI (m + fsz g) → TW h' T n0 kd x b' → fer b' = fap (fer b) (fer g) → (∀ y ∈ fad b', n0 < y ∧ y < m + fsz g) → (fad b').Nodup → V X K 55 [.ref T, v1, .int (nI n0), .int (-1)] [] h') → V X K 30 [.ref T, v1, .int (nI n0), .int p] [] h
theorem tcopy_of {c : LF} (L : TCopyLoop c) : TCopyOk c := by
  intro G d T a kd n x h K hs hv hk hb hz hlt hn hd kk
  refine st_X24_copy fun X o hG hD hf => ?_
  subst hG; subst hD
  obtain ⟨⟨i1, i2, i3, i4, i5, i6⟩, i7, i8, i9, i10, i11⟩ := id hs
  obtain ⟨v1, v2, v3, v4, v5⟩ := id hv
  have ix : IX (nI a) 24576 a := IX.mk v1 (by omega)
  refine k_X24_copy_0 o ?_
  refine tmake_ok hs hz (by omega) hk fun h1 f1 z1 w1 n1 => ?_
  have hs1 := hs.fs f1.1.1 rfl
  have u1 := hv.tu f1 (fun y hy q => by have := hlt y hy; omega)
  obtain ⟨⟨j1, j2, j3, j4, j5, j6⟩, j7, j8, j9, j10, j11⟩ := id hs1
  refine k_X24_copy_22 o ?_
  refine L T n kd (n + 1) x _ X o K h1 .leaf _ hs1 w1 u1.2.2.2.2 hb z1 (by omega) (fun y hy => hlt y (by simp [hy])) (fun y hy => by cases hy) List.nodup_nil (by omega) (by omega) fun h2 b' f2 z2 w2 e2 l2 n2 => ?_
  rw [show n + 1 + fsz c = n + (1 + fsz c) by omega] at f2 z2 l2
  refine k_X24_copy_55 o ?_
  refine (kk h2 b' ((f1.mono fun j q => by omega).trans f2) z2 w2 (by rw [e2]; rfl) l2 n2)
theorem tcopy_loop : ∀ g : LF, TCopyLoop g
  | .leaf => by
    intro T n0 kd m x v1 X o K h b p hs hv hg hbk hz hnm hlt hlb hnb hle hd k
    cases hg
    refine k_X24_copy_30 o (fun qq => ?_) (fun qq => ?_)
    rotate_left
    · exact absurd rfl qq
    exact k h b (TU.refl h) hz hv (by rw [show fer (.leaf : LF) = .leaf from rfl, fap_leaf]) hlb hnb
  | .inner k' x' u c r => by
    intro T n0 kd m x v1 X o K h b p hs hv hg hbk hz hnm hlt hlb hnb hle hd k
    obtain ⟨⟨rfl, p2⟩, p3, p4, p5, p6, p7⟩ := hg
    obtain ⟨b1, b2, b3⟩ := hbk
    simp only [fdp] at hd
    simp only [fsz] at hle k
    have hx := hlt x'.1 (by simp [fad])
    have ix : IX (nI x'.1) 24576 x'.1 := IX.mk p2 (by omega)
    have t0 := hs.1.1
    refine k_X24_copy_30 o (fun c1 => ?_) (fun c1 => ?_)
    · exact absurd c1 (nI_m1 p2)
    refine k_X24_copy_35 o ?_
    refine tcopy_of (tcopy_loop c) X.G (X.d - 1) T x'.1 k' m x'.2 h _ hs ⟨p2, p3, p4, p5, p6⟩ b1 b2 hz (fun y hy => by rcases List.mem_cons.mp hy with q | q; omega; have := hlt y (by simp [fad, q]); omega) (by omega) (by omega) fun h1 c' f1 z1 w1 e1 l1 d1 => ?_
    have hs1 := hs.fs f1.1.1 rfl
    have t1 := hs1.1.1
    have v1' := hv.tu f1 (fun y hy q => by rcases List.mem_cons.mp hy with z | z; omega; have := hlb y z; omega)
    refine k_X24_copy_42 o ?_
    refine tadd2_ok hs1 v1' w1 ?_ fun h2 f2 z2 w2 => ?_
    · simp only [List.nodup_cons, List.nodup_append, List.mem_append, List.mem_cons]
      refine ⟨fun q => ?_, hnb, ⟨fun q => ?_, d1⟩, fun y hy z hz2 e => ?_⟩
      · rcases q with q | q | q
        · have := hlb n0 q; omega
        · omega
        · have := l1 n0 q; omega
      · have := l1 m q; omega
      · have := hlb y hy
        rcases hz2 with q | q
        · omega
        · have := l1 z q; omega
    have hs2 := hs1.fs f2.1.1 rfl
    obtain ⟨⟨j1, j2, j3, j4, j5, j6⟩, j7, j8, j9, j10, j11⟩ := id hs2
    have F : TU T (fun j => n0 ≤ j ∧ j < m + (1 + fsz c)) h h2 := (f1.mono fun j q => by omega).trans (f2.mono fun j q => by rcases q with q | q | q; omega; omega; have := hlb j q; omega)
    have p7' : TF h2 T r (h.EI 1696 (T + 5) x'.1) := TF.tu F p7 fun y hy q => by have := hlt y (by simp [fad, hy]); omega
    have nx : h2.EI 1696 (T + 5) x'.1 = h.EI 1696 (T + 5) x'.1 := (F.2 x'.1 (by omega)).2.2.2.2
    refine k_X24_copy_45 o ?_
    refine tcopy_loop r T n0 kd (m + (1 + fsz c)) x v1 X o K h2 _ _ hs2 w2 p7' b3 (z2.trans z1) (by omega) (fun y hy => hlt y (by simp [fad, hy])) (fun y hy => ?_) ?_ (by omega) (by omega) fun h3 b' f3 z3 w3 e3 l3 n3 => ?_
    · rw [fad_ap] at hy
      simp only [fad, List.mem_append, List.mem_cons, List.append_nil] at hy
      rcases hy with q | q | q
      · have := hlb y q; omega
      · omega
      · have := l1 y q; omega
    · rw [fad_ap]
      simp only [fad, List.append_nil, List.nodup_append, List.nodup_cons, List.mem_cons]
      refine ⟨hnb, ⟨fun q => ?_, d1⟩, fun y hy z hz2 e => ?_⟩
      · have := l1 m q; omega
      · have := hlb y hy
        rcases hz2 with q | q
        · omega
        · have := l1 z q; omega
    · rw [show m + (1 + fsz c) + fsz r = m + (1 + fsz c + fsz r) by omega] at f3 z3 l3
      refine k h3 b' ((F.mono fun j q => by omega).trans f3) z3 w3 ?_ l3 n3
      rw [e3, fer_ap, fap_assoc]
      simp only [fer, fap, e1]
theorem tcopy_ok (c : LF) : TCopyOk c := tcopy_of (tcopy_loop c)
def feq : Fo → Fo → Bool
  | .leaf, .leaf => true
  | .inner k x _ c r, .inner k' x' _ c' r' => (k == k' && x.1 == x'.1 && x.2 == x'.2 && feq c c') && feq r r'
  | _, _ => false
def veq (k k' : Nat) (x x' : Int64 × Int64) (c c' : Fo) : Bool := k == k' && x.1 == x'.1 && x.2 == x'.2 && feq c c'
def TAlikeLoop (g : LF) : Prop := ∀ (g' : LF) (T : Nat) (X : Xt) (_ : OK e_X24_isAlike X) (K : Outcome → AH → Prop) (h : AH) (p p' : Int32) (v1 v2 : Value), ST h T → TF h T g p → TF h T g' p' → fbk g → fbk g' → fdp g ≤ X.d → K (.returned (some (.int (bI (feq (fer g) (fer g')))))) h → V X K 64 [.ref T, v1, v2, .int p, .int p'] [] h
theorem talike_of {c : LF} (L : TAlikeLoop c) {G : Gt} {d : Nat} {h : AH} {K : Outcome → AH → Prop} {T a a' k k' : Nat} {x x' : Int64 × Int64} {c' : LF} (hs : ST h T) (hv : TW h T a k x c) (hw : TW h T a' k' x' c') (hk : k < 128 ∧ k' < 128) (hb : fbk c ∧ fbk c') (hd : fdp c ≤ d) (kk : K (.returned (some (.int (bI (veq k k' x x' (fer c) (fer c')))))) h) : MW G d e_X24_isAlike [.ref T, .int (nI a), .int (nI a')] h K := by
  refine st_X24_isAlike fun X o hG hD hf => ?_
  subst hG; subst hD
  obtain ⟨⟨i1, i2, i3, i4, i5, i6⟩, i7, i8, i9, i10, i11⟩ := id hs
  obtain ⟨v1, v2, v3, v4, v5⟩ := id hv
  obtain ⟨w1, w2, w3, w4, w5⟩ := id hw
  have ix : IX (nI a) 24576 a := IX.mk v1 (by omega)
  have ix2 : IX (nI a') 24576 a' := IX.mk w1 (by omega)
  unfold veq at kk
  refine k_X24_isAlike_0 o (fun qq => ?_) (fun qq => ?_)
  · have e1 : (k == k') = false := by rw [beq_eq_false_iff_ne]; exact fun q => qq (by rw [q])
    rw [e1] at kk
    refine k_X24_isAlike_47 o ?_
    refine (kk)
  have c1 : k = k' := (nI_eq (by omega) (by omega)).mp qq
  refine k_X24_isAlike_15 o (fun c2 => ?_) (fun c2 => ?_)
  · have c2 : (x.1 == x'.1) = false := by rw [beq_eq_false_iff_ne]; exact c2
    rw [c2] at kk
    have kk : K (.returned (some (.int (bI false)))) h := by simpa using kk
    refine k_X24_isAlike_47 o ?_
    refine (kk)
  refine k_X24_isAlike_31 o (fun c3 => ?_) (fun c3 => ?_)
  rotate_left
  · have c3 : (x.2 == x'.2) = false := by rw [beq_eq_false_iff_ne]; exact c3
    rw [c3] at kk
    have kk : K (.returned (some (.int (bI false)))) h := by simpa using kk
    refine k_X24_isAlike_47 o ?_
    refine (kk)
  refine k_X24_isAlike_49 o ?_
  refine L c' T X o K h _ _ _ _ hs v5 w5 hb.1 hb.2 hd ?_
  simpa [c1, c2, c3] using kk
theorem talike_loop : ∀ g : LF, TAlikeLoop g
  | .leaf => by
    intro g' T X o K h p p' v1 v2 hs hg hg' hb hb' hd kk
    cases hg
    refine k_X24_isAlike_64 o (fun qq => ?_) (fun qq => ?_)
    rotate_left
    · exact absurd rfl qq
    refine k_X24_isAlike_104 o (fun c2 => ?_) (fun c2 => ?_)
    · exact absurd rfl c2
    cases g' with
    | leaf =>
      cases hg'
      refine k_X24_isAlike_109 o (fun c3 => ?_) (fun c3 => ?_)
      · exact absurd rfl c3
      refine k_X24_isAlike_115 o ?_
      refine k_X24_isAlike_120 o ?_
      refine (kk)
    | inner k' x' u c' r' =>
      obtain ⟨⟨rfl, q2⟩, -⟩ := hg'
      refine k_X24_isAlike_109 o (fun c3 => ?_) (fun c3 => ?_)
      rotate_left
      · exact absurd c3 (nI_m1 q2)
      refine k_X24_isAlike_119 o ?_
      refine k_X24_isAlike_120 o ?_
      refine (kk)
  | .inner k x _ c r => by
    intro g' T X o K h p p' v1 v2 hs hg hg' hb hb' hd kk
    obtain ⟨⟨rfl, p2⟩, p3, p4, p5, p6, p7⟩ := hg
    have ix : IX (nI x.1) 24576 x.1 := IX.mk p2 (by omega)
    simp only [fdp] at hd
    have no : ∀ q, K (.returned (some (.int (bI false)))) h → V X K 104 [.ref T, v1, v2, .int (nI x.1), .int q] [] h := fun q kk => by
      refine k_X24_isAlike_104 o (fun c2 => ?_) (fun c2 => ?_)
      rotate_left
      · exact absurd c2 (nI_m1 p2)
      refine k_X24_isAlike_119 o ?_
      refine k_X24_isAlike_120 o ?_
      refine (kk)
    refine k_X24_isAlike_64 o (fun c0 => ?_) (fun c0 => ?_)
    · exact absurd c0 (nI_m1 p2)
    cases g' with
    | leaf =>
      cases hg'
      refine k_X24_isAlike_69 o (fun c3 => ?_) (fun c3 => ?_)
      · exact no _ kk
      · exact absurd rfl c3
    | inner k' x' u c' r' =>
      obtain ⟨⟨rfl, q2⟩, q3, q4, q5, q6, q7⟩ := hg'
      have ix2 : IX (nI x'.1) 24576 x'.1 := IX.mk q2 (by omega)
      obtain ⟨⟨i1, i2, i3, i4, i5, i6⟩, i7, i8, i9, i10, i11⟩ := id hs
      refine k_X24_isAlike_69 o (fun c3 => ?_) (fun c3 => ?_)
      · exact absurd c3 (nI_m1 q2)
      refine k_X24_isAlike_75 o ?_
      have kk : K (.returned (some (.int (bI (veq k k' x.2 x'.2 (fer c) (fer c') && feq (fer r) (fer r')))))) h := kk
      refine talike_of (talike_loop c) hs ⟨p2, p3, p4, p5, p6⟩ ⟨q2, q3, q4, q5, q6⟩ ⟨hb.1, hb'.1⟩ ⟨hb.2.1, hb'.2.1⟩ (by omega) ?_
      generalize veq k k' x.2 x'.2 (fer c) (fer c') = bb at kk
      refine k_X24_isAlike_82 o (fun c4 => ?_) (fun c4 => ?_)
      · have c4 := bI_0.mp c4
        subst c4
        exact no _ kk
      · have c4 : bb = true := by
          cases bb with
          | true => rfl
          | false => exact absurd rfl c4
        subst c4
        refine k_X24_isAlike_85 o ?_
        exact talike_loop r r' T X o K h _ _ v1 v2 hs p7 q7 hb.2.2 hb'.2.2 (by omega) (by simpa using kk)
theorem tisAlike_ok {c : LF} {G : Gt} {d : Nat} {h : AH} {K : Outcome → AH → Prop} {T a a' k k' : Nat} {x x' : Int64 × Int64} {c' : LF} (hs : ST h T) (hv : TW h T a k x c) (hw : TW h T a' k' x' c') (hk : k < 128 ∧ k' < 128) (hb : fbk c ∧ fbk c') (hd : fdp c ≤ d) (kk : K (.returned (some (.int (bI (veq k k' x x' (fer c) (fer c')))))) h) : MW G d e_X24_isAlike [.ref T, .int (nI a), .int (nI a')] h K := talike_of (talike_loop c) hs hv hw hk hb hd kk
theorem tbecome_ok {G : Gt} {d : Nat} {h : AH} {K : Outcome → AH → Prop} {T a b k k' : Nat} {x x' : Int64 × Int64} {c c' : LF} (hs : ST h T) (hv : TW h T a k x c) (hw : TW h T b k' x' c') (hk : k' < 128) (hn : a ∉ fad c')
    (kk : ∀ h', TU T (fun j => j = a) h h' → h'.I 2949 T = h.I 2949 T → TW h' T a k' x' c' → K (.returned none) h') : MW G d e_X24_become [.ref T, .int (nI a), .int (nI b)] h K := by
  refine st_X24_become fun X o hG hD hf => ?_
  obtain ⟨⟨i1, i2, i3, i4, i5, i6⟩, i7, i8, i9, i10, i11⟩ := id hs
  obtain ⟨v1, v2, v3, v4, v5⟩ := id hv
  obtain ⟨w1, w2, w3, w4, w5⟩ := id hw
  have ix : IX (nI a) 24576 a := IX.mk v1 (by omega)
  have ix2 : IX (nI b) 24576 b := IX.mk w1 (by omega)
  have ek : (nI k').toInt8.toInt32 = nI k' := i8_n hk
  refine k_X24_become_0 o ?_
  rw [ek]
  have f : TU T (fun j => j = a) h ((((h.sEI 1633 (T + 1) a (nI k')).sEJ 1651 (T + 2) a x'.1).sEJ 1667 (T + 3) a x'.2).sEI 1680 (T + 4) a (h.EI 1680 (T + 4) b)) := (by refine (TU.fi (TU.lo (TU.hi (TU.kd (TU.refl h) ?_) ?_) ?_) ?_) <;> exact rfl)
  refine kk _ f rfl ⟨v1, by simp [n_sI, z_sI, tag_sI, I_sI, J_sI, R_sI, EI_sI, EJ_sI, ER_sI, n_sJ, z_sJ, tag_sJ, I_sJ, J_sJ, R_sJ, EI_sJ, EJ_sJ, ER_sJ, n_sR, z_sR, tag_sR, I_sR, J_sR, R_sR, EI_sR, EJ_sR, ER_sR, n_sEI, z_sEI, tag_sEI, I_sEI, J_sEI, R_sEI, EI_sEI, EJ_sEI, ER_sEI, n_sEJ, z_sEJ, tag_sEJ, I_sEJ, J_sEJ, R_sEJ, EI_sEJ, EJ_sEJ, ER_sEJ, n_sER, z_sER, tag_sER, I_sER, J_sER, R_sER, EI_sER, EJ_sER, ER_sER, n_nw, z_nw, tag_nw, I_nw, J_nw, R_nw, EI_nw, EJ_nw, ER_nw], by simp [n_sI, z_sI, tag_sI, I_sI, J_sI, R_sI, EI_sI, EJ_sI, ER_sI, n_sJ, z_sJ, tag_sJ, I_sJ, J_sJ, R_sJ, EI_sJ, EJ_sJ, ER_sJ, n_sR, z_sR, tag_sR, I_sR, J_sR, R_sR, EI_sR, EJ_sR, ER_sR, n_sEI, z_sEI, tag_sEI, I_sEI, J_sEI, R_sEI, EI_sEI, EJ_sEI, ER_sEI, n_sEJ, z_sEJ, tag_sEJ, I_sEJ, J_sEJ, R_sEJ, EI_sEJ, EJ_sEJ, ER_sEJ, n_sER, z_sER, tag_sER, I_sER, J_sER, R_sER, EI_sER, EJ_sER, ER_sER, n_nw, z_nw, tag_nw, I_nw, J_nw, R_nw, EI_nw, EJ_nw, ER_nw], by simp [n_sI, z_sI, tag_sI, I_sI, J_sI, R_sI, EI_sI, EJ_sI, ER_sI, n_sJ, z_sJ, tag_sJ, I_sJ, J_sJ, R_sJ, EI_sJ, EJ_sJ, ER_sJ, n_sR, z_sR, tag_sR, I_sR, J_sR, R_sR, EI_sR, EJ_sR, ER_sR, n_sEI, z_sEI, tag_sEI, I_sEI, J_sEI, R_sEI, EI_sEI, EJ_sEI, ER_sEI, n_sEJ, z_sEJ, tag_sEJ, I_sEJ, J_sEJ, R_sEJ, EI_sEJ, EJ_sEJ, ER_sEJ, n_sER, z_sER, tag_sER, I_sER, J_sER, R_sER, EI_sER, EJ_sER, ER_sER, n_nw, z_nw, tag_nw, I_nw, J_nw, R_nw, EI_nw, EJ_nw, ER_nw], ?_⟩
  rw [EI_same]
  exact TF.tu f w5 fun j hj q => hn (q ▸ hj)
theorem tswap_ok {G : Gt} {d : Nat} {h : AH} {K : Outcome → AH → Prop} {T a b k k' : Nat} {x x' : Int64 × Int64} {c c' : LF} (hs : ST h T) (hv : TW h T a k x c) (hw : TW h T b k' x' c') (hk : k < 128 ∧ k' < 128) (hn : (a :: b :: (fad c ++ fad c')).Nodup) (hd : 1 ≤ d)
    (kk : ∀ h', TU T (fun j => j = a ∨ j = b) h h' → h'.I 2949 T = h.I 2949 T → TW h' T a k' x' c' → TW h' T b k x c → K (.returned none) h') : MW G d e_X24_swap [.ref T, .int (nI a), .int (nI b)] h K := by
  refine st_X24_swap fun X o hG hD hf => ?_
  obtain ⟨⟨i1, i2, i3, i4, i5, i6⟩, i7, i8, i9, i10, i11⟩ := id hs
  obtain ⟨v1, v2, v3, v4, v5⟩ := id hv
  obtain ⟨w1, w2, w3, w4, w5⟩ := id hw
  have ix : IX (nI a) 24576 a := IX.mk v1 (by omega)
  have ix2 : IX (nI b) 24576 b := IX.mk w1 (by omega)
  have ek : (nI k).toInt8.toInt32 = nI k := i8_n hk.1
  simp only [List.nodup_cons, List.mem_cons, List.mem_append] at hn
  refine k_X24_swap_0 o ?_
  refine tbecome_ok hs hv hw hk.2 (by grind) fun h1 f1 z1 u1 => ?_
  have hs1 := hs.fs f1.1.1 rfl
  obtain ⟨⟨j1, j2, j3, j4, j5, j6⟩, j7, j8, j9, j10, j11⟩ := id hs1
  refine k_X24_swap_37 o ?_
  rw [ek]
  have f2 : TU T (fun j => j = b) h1 ((((h1.sEI 1633 (T + 1) b (nI k)).sEJ 1651 (T + 2) b x.1).sEJ 1667 (T + 3) b x.2).sEI 1680 (T + 4) b (h.EI 1680 (T + 4) a)) := (by refine (TU.fi (TU.lo (TU.hi (TU.kd (TU.refl h1) ?_) ?_) ?_) ?_) <;> exact rfl)
  have F : TU T (fun j => j = a ∨ j = b) h _ := (f1.mono fun j q => Or.inl q).trans (f2.mono fun j q => Or.inr q)
  refine kk _ F z1 (u1.tu f2 (by simp only [List.mem_cons]; grind)) ⟨w1, by simp [n_sI, z_sI, tag_sI, I_sI, J_sI, R_sI, EI_sI, EJ_sI, ER_sI, n_sJ, z_sJ, tag_sJ, I_sJ, J_sJ, R_sJ, EI_sJ, EJ_sJ, ER_sJ, n_sR, z_sR, tag_sR, I_sR, J_sR, R_sR, EI_sR, EJ_sR, ER_sR, n_sEI, z_sEI, tag_sEI, I_sEI, J_sEI, R_sEI, EI_sEI, EJ_sEI, ER_sEI, n_sEJ, z_sEJ, tag_sEJ, I_sEJ, J_sEJ, R_sEJ, EI_sEJ, EJ_sEJ, ER_sEJ, n_sER, z_sER, tag_sER, I_sER, J_sER, R_sER, EI_sER, EJ_sER, ER_sER, n_nw, z_nw, tag_nw, I_nw, J_nw, R_nw, EI_nw, EJ_nw, ER_nw], by simp [n_sI, z_sI, tag_sI, I_sI, J_sI, R_sI, EI_sI, EJ_sI, ER_sI, n_sJ, z_sJ, tag_sJ, I_sJ, J_sJ, R_sJ, EI_sJ, EJ_sJ, ER_sJ, n_sR, z_sR, tag_sR, I_sR, J_sR, R_sR, EI_sR, EJ_sR, ER_sR, n_sEI, z_sEI, tag_sEI, I_sEI, J_sEI, R_sEI, EI_sEI, EJ_sEI, ER_sEI, n_sEJ, z_sEJ, tag_sEJ, I_sEJ, J_sEJ, R_sEJ, EI_sEJ, EJ_sEJ, ER_sEJ, n_sER, z_sER, tag_sER, I_sER, J_sER, R_sER, EI_sER, EJ_sER, ER_sER, n_nw, z_nw, tag_nw, I_nw, J_nw, R_nw, EI_nw, EJ_nw, ER_nw], by simp [n_sI, z_sI, tag_sI, I_sI, J_sI, R_sI, EI_sI, EJ_sI, ER_sI, n_sJ, z_sJ, tag_sJ, I_sJ, J_sJ, R_sJ, EI_sJ, EJ_sJ, ER_sJ, n_sR, z_sR, tag_sR, I_sR, J_sR, R_sR, EI_sR, EJ_sR, ER_sR, n_sEI, z_sEI, tag_sEI, I_sEI, J_sEI, R_sEI, EI_sEI, EJ_sEI, ER_sEI, n_sEJ, z_sEJ, tag_sEJ, I_sEJ, J_sEJ, R_sEJ, EI_sEJ, EJ_sEJ, ER_sEJ, n_sER, z_sER, tag_sER, I_sER, J_sER, R_sER, EI_sER, EJ_sER, ER_sER, n_nw, z_nw, tag_nw, I_nw, J_nw, R_nw, EI_nw, EJ_nw, ER_nw], ?_⟩
  rw [EI_same]
  exact TF.tu F v5 (by grind)
