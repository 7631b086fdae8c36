/-! the component's reader: its shape, and that of tables -/
theorem FS.no {l m : List Nat} (hm : m.all (fun f => !l.contains f) = true) : ∀ f a, m.contains f = true → ¬ FS l f a := fun f a hf => FS.n (by
  rw [List.all_eq_true] at hm
  simpa using hm f (List.contains_iff_mem.mp hf))
theorem un_lm (v : Nat) : un (lN v) = v % 18446744073709551616 := by
  unfold un lN
  show (BitVec.ofNat 64 v).toNat = _
  rw [BitVec.toNat_ofNat]
def STb (h : AH) (T : Nat) : Prop :=
  (h.tag T = some (2, 0) ∧ h.R 257 T = some (T + 1) ∧ h.R 258 T = some (T + 2) ∧ h.R 259 T = some (T + 3) ∧ h.R 260 T = some (T + 6) ∧ h.R 261 T = some (T + 7)) ∧
  (h.tag (T + 1) = some (212, 64) ∧ h.tag (T + 2) = some (229, 96) ∧ h.tag (T + 3) = some (3, 0) ∧ h.R 384 (T + 3) = some (T + 4) ∧ h.R 385 (T + 3) = some (T + 5) ∧ h.tag (T + 4) = some (243, 2048) ∧ h.tag (T + 5) = some (256, 2048) ∧ h.tag (T + 6) = some (4, 0)) ∧
  (h.tag (T + 7) = some (5, 0) ∧ h.R 640 (T + 7) = some (T + 8) ∧ h.R 641 (T + 7) = some (T + 9) ∧ h.R 642 (T + 7) = some (T + 10) ∧ h.R 643 (T + 7) = some (T + 11) ∧ h.tag (T + 8) = some (273, 2048) ∧ h.tag (T + 9) = some (291, 2048) ∧ h.tag (T + 10) = some (307, 2048) ∧ h.tag (T + 11) = some (320, 2048)) ∧
  (∀ k, k < 64 → h.ER 212 (T + 1) k = some (T + 12 + 2 * k) ∧ h.tag (T + 12 + 2 * k) = some (6, 0) ∧ h.R 770 (T + 12 + 2 * k) = some (T + 13 + 2 * k) ∧ h.tag (T + 13 + 2 * k) = some (4, 0)) ∧
  (∀ k, k < 96 → h.ER 229 (T + 2) k = some (T + 140 + 4 * k) ∧ h.tag (T + 140 + 4 * k) = some (7, 0) ∧ (h.R 897 (T + 140 + 4 * k) = some (T + 141 + 4 * k) ∧ h.R 898 (T + 140 + 4 * k) = some (T + 142 + 4 * k) ∧ h.R 899 (T + 140 + 4 * k) = some (T + 143 + 4 * k)) ∧ h.tag (T + 141 + 4 * k) = some (4, 0) ∧ h.tag (T + 142 + 4 * k) = some (4, 0) ∧ h.tag (T + 143 + 4 * k) = some (4, 0))
def stF : List Nat := [257, 258, 259, 260, 261, 384, 385, 640, 641, 642, 643, 770, 897, 898, 899, 10000 + 212, 10000 + 229]
theorem STb.fr {P : Nat → Nat → Prop} {h h' : AH} {T : Nat} (q : Fr P h h') (np : ∀ f a, stF.contains f = true → ¬ P f a) (s : STb h T) : STb h' T := by
  obtain ⟨⟨a1, a2, a3, a4, a5, a6⟩, ⟨b1, b2, b3, b4, b5, b6, b7, b8⟩, ⟨c1, c2, c3, c4, c5, c6, c7, c8, c9⟩, d, e⟩ := s
  refine ⟨⟨q.tag a1, ?_, ?_, ?_, ?_, ?_⟩, ⟨q.tag b1, q.tag b2, q.tag b3, ?_, ?_, q.tag b6, q.tag b7, q.tag b8⟩, ⟨q.tag c1, ?_, ?_, ?_, ?_, q.tag c6, q.tag c7, q.tag c8, q.tag c9⟩, fun k hk => ?_, fun k hk => ?_⟩
  · rw [q.R (np _ _ rfl)]; exact a2
  · rw [q.R (np _ _ rfl)]; exact a3
  · rw [q.R (np _ _ rfl)]; exact a4
  · rw [q.R (np _ _ rfl)]; exact a5
  · rw [q.R (np _ _ rfl)]; exact a6
  · rw [q.R (np _ _ rfl)]; exact b4
  · rw [q.R (np _ _ rfl)]; exact b5
  · rw [q.R (np _ _ rfl)]; exact c2
  · rw [q.R (np _ _ rfl)]; exact c3
  · rw [q.R (np _ _ rfl)]; exact c4
  · rw [q.R (np _ _ rfl)]; exact c5
  · obtain ⟨d1, d2, d3, d4⟩ := d k hk
    exact ⟨by rw [q.ER (np _ _ rfl)]; exact d1, q.tag d2, by rw [q.R (np _ _ rfl)]; exact d3, q.tag d4⟩
  · obtain ⟨d1, d2, ⟨d3, d4, d5⟩, d6, d7, d8⟩ := e k hk
    exact ⟨by rw [q.ER (np _ _ rfl)]; exact d1, q.tag d2, ⟨by rw [q.R (np _ _ rfl)]; exact d3, by rw [q.R (np _ _ rfl)]; exact d4, by rw [q.R (np _ _ rfl)]; exact d5⟩, q.tag d6, q.tag d7, q.tag d8⟩
/-- the reader: its tape, what it throws, a row of its own -/
def SRd (h : AH) (R W Q : Nat) : Prop := h.tag R = some (11, 0) ∧ h.R 1408 R = some (R + 1) ∧ h.tag (R + 1) = some (353, 2048) ∧ h.R 1414 R = some W ∧ h.R 1416 R = some Q ∧ h.tag Q = some (371, 32)
def srF : List Nat := [1408, 1414, 1416]
theorem SRd.fr {P : Nat → Nat → Prop} {h h' : AH} {R W Q : Nat} (q : Fr P h h') (np : ∀ f a, srF.contains f = true → ¬ P f a) (s : SRd h R W Q) : SRd h' R W Q := by
  obtain ⟨s1, s2, s3, s4, s5, s6⟩ := s
  exact ⟨q.tag s1, by rw [q.R (np _ _ rfl)]; exact s2, q.tag s3, by rw [q.R (np _ _ rfl)]; exact s4, by rw [q.R (np _ _ rfl)]; exact s5, q.tag s6⟩
/-- bytes on a tape -/
def TPb (h : AH) (R n : Nat) (B : Nat → Nat) : Prop := h.I 1409 R = nI n ∧ n ≤ 2048 ∧ (∀ i, B i < 256) ∧ ∀ i, i < n → h.EI 353 (R + 1) i &&& nI 255 = nI (B i)
theorem TPb.fr {P : Nat → Nat → Prop} {h h' : AH} {R n : Nat} {B : Nat → Nat} (q : Fr P h h') (n1 : ∀ a, ¬ P 1409 a) (n2 : ∀ a, ¬ P (10000 + 353) a) (s : TPb h R n B) : TPb h' R n B := by
  obtain ⟨s1, s2, s3, s4⟩ := s
  exact ⟨by rw [q.I (n1 _)]; exact s1, s2, s3, fun i hi => by rw [q.EI (n2 _)]; exact s4 i hi⟩
def TY (h : AH) (T : Nat) (ts : TL) : Prop := h.I 386 (T + 3) = nI ts.length ∧ ∀ i x, ts[i]? = some x → h.EJ 243 (T + 4) i = lN (tyc x.1) ∧ h.EI 256 (T + 5) i = nI x.2
def CO (h : AH) (T : Nat) (cs : List Ix) : Prop := h.I 644 (T + 7) = nI cs.length ∧ ∀ i x, cs[i]? = some x → h.EI 273 (T + 8) i = nI x.1 ∧ h.EJ 291 (T + 9) i = lN x.2.1 ∧ h.EJ 307 (T + 10) i = lN x.2.2.1 ∧ h.EI 320 (T + 11) i = nI x.2.2.2
theorem TY.fr {P : Nat → Nat → Prop} {h h' : AH} {T : Nat} {ts : TL} (q : Fr P h h') (n1 : ¬ P 386 (T + 3)) (n2 : ¬ P (10000 + 243) (T + 4)) (n3 : ¬ P (10000 + 256) (T + 5)) (s : TY h T ts) : TY h' T ts :=
  ⟨by rw [q.I n1]; exact s.1, fun i x hx => ⟨by rw [q.EJ n2]; exact (s.2 i x hx).1, by rw [q.EI n3]; exact (s.2 i x hx).2⟩⟩
theorem CO.fr {P : Nat → Nat → Prop} {h h' : AH} {T : Nat} {cs : List Ix} (q : Fr P h h') (n1 : ¬ P 644 (T + 7)) (n2 : ¬ P (10000 + 273) (T + 8)) (n3 : ¬ P (10000 + 291) (T + 9)) (n4 : ¬ P (10000 + 307) (T + 10)) (n5 : ¬ P (10000 + 320) (T + 11)) (s : CO h T cs) : CO h' T cs :=
  ⟨by rw [q.I n1]; exact s.1, fun i x hx => ⟨by rw [q.EI n2]; exact (s.2 i x hx).1, by rw [q.EJ n3]; exact (s.2 i x hx).2.1, by rw [q.EJ n4]; exact (s.2 i x hx).2.2.1, by rw [q.EI n5]; exact (s.2 i x hx).2.2.2⟩⟩
/-! what reading changes -/
def raF : List Nat := [1410, 1412, 1413]
def tyF : List Nat := [386, 10000 + 243, 10000 + 256]
def tcF : List Nat := tyF ++ [644, 10000 + 273, 10000 + 291, 10000 + 307, 10000 + 320]
def tbF : List Nat := [256, 262, 263, 264, 265, 512, 513, 768, 769, 771, 772, 896, 900, 901, 902, 903]
def rxF : List Nat := raF ++ tcF ++ tbF ++ [1415, 10000 + 371]
/-- all that reading may change: the reader, and the tables at T -/
def RQ (T f a : Nat) : Prop := FS (raF ++ [1415, 10000 + 371]) f a ∨ (FS (tcF ++ tbF) f a ∧ T ≤ a ∧ a < T + 524)
/-- the tables' cells from lo to before hi, and the rows behind their lists -/
def AQ (T lo hi f a : Nat) : Prop := FS [1410] f a ∨ (FS tcF f a ∧ T + 3 ≤ a ∧ a ≤ T + 11) ∨ (FS tbF f a ∧ lo ≤ a ∧ a < hi)
theorem AQ.mono {T lo hi lo' hi' : Nat} (h1 : lo' ≤ lo ∨ hi ≤ lo) (h2 : hi ≤ hi' ∨ hi ≤ lo) : ∀ f a, AQ T lo hi f a → AQ T lo' hi' f a := fun f a q => by
  rcases q with q | q | ⟨q, q1, q2⟩
  · exact Or.inl q
  · exact Or.inr (Or.inl q)
  · exact Or.inr (Or.inr ⟨q, by omega, by omega⟩)
theorem AQ.rq {T lo hi : Nat} (h1 : T ≤ lo ∨ hi ≤ lo) (h2 : hi ≤ T + 524 ∨ hi ≤ lo) : ∀ f a, AQ T lo hi f a → RQ T f a := fun f a q => by
  rcases q with q | ⟨q, q1⟩ | ⟨q, q1, q2⟩
  · refine Or.inl ?_
    exact FS.mono (l := [1410]) rfl f a q
  · refine Or.inr ⟨?_, by omega, by omega⟩
    exact FS.mono (l := tcF) rfl f a q
  · refine Or.inr ⟨?_, by omega, by omega⟩
    exact FS.mono (l := tbF) rfl f a q
/-- what reading changes as long as nothing is wrong -/
def RG (T f a : Nat) : Prop := FS [1410] f a ∨ (FS (tcF ++ tbF) f a ∧ T ≤ a ∧ a < T + 524)
theorem RG.rq {T : Nat} : ∀ f a, RG T f a → RQ T f a := fun f a q => by
  rcases q with q | q
  · exact Or.inl (FS.mono (l := [1410]) rfl f a q)
  · exact Or.inr q
theorem at_rg {T : Nat} : ∀ f a, FS [1410] f a → RG T f a := fun _ _ q => Or.inl q
theorem AQ.rg {T lo hi : Nat} (h1 : T ≤ lo ∨ hi ≤ lo) (h2 : hi ≤ T + 524 ∨ hi ≤ lo) : ∀ f a, AQ T lo hi f a → RG T f a := fun f a q => by
  rcases q with q | ⟨q, q1⟩ | ⟨q, q1, q2⟩
  · exact Or.inl q
  · refine Or.inr ⟨?_, by omega, by omega⟩
    exact FS.mono (l := tcF) rfl f a q
  · refine Or.inr ⟨?_, by omega, by omega⟩
    exact FS.mono (l := tbF) rfl f a q
theorem AQ.no {T lo hi f a : Nat} (h : (raF ++ tcF ++ tbF).contains f = false) : ¬ AQ T lo hi f a := fun q => by
  have e : ∀ l, l.all (fun f => (raF ++ tcF ++ tbF).contains f) = true → ¬ FS l f a := fun l hl z => FS.n h (FS.mono hl f a z)
  rcases q with q | ⟨q, _⟩ | ⟨q, _⟩
  · exact e [1410] rfl q
  · exact e tcF rfl q
  · exact e tbF rfl q
theorem AQ.out {T lo hi f a : Nat} (h : (raF ++ tcF).contains f = false) (ha : a < lo ∨ hi ≤ a) : ¬ AQ T lo hi f a := fun q => by
  have e : ∀ l, l.all (fun f => (raF ++ tcF).contains f) = true → ¬ FS l f a := fun l hl z => FS.n h (FS.mono hl f a z)
  rcases q with q | ⟨q, _⟩ | ⟨q, q1, q2⟩
  · exact e [1410] rfl q
  · exact e tcF rfl q
  · omega
theorem RQ.no {T f a : Nat} (h : rxF.contains f = false) : ¬ RQ T f a := fun q => by
  have e : ∀ l, l.all (fun f => rxF.contains f) = true → ¬ FS l f a := fun l hl z => FS.n h (FS.mono hl f a z)
  rcases q with q | ⟨q, _⟩
  · exact e (raF ++ [1415, 10000 + 371]) rfl q
  · exact e (tcF ++ tbF) rfl q
/-- reading at place p: ts and cs lie in the rows -/
def RS (h : AH) (R W Q T n : Nat) (B : Nat → Nat) (p : Nat) (ts : TL) (cs : List Ix) : Prop :=
  (SRd h R W Q ∧ h.R 1411 R = some T ∧ STb h T) ∧ TPb h R n B ∧ h.I 1410 R = nI p ∧ p ≤ n ∧ (TY h T ts ∧ ts.length ≤ p) ∧ CO h T cs ∧ cs.length ≤ p
theorem all_no {l : List Nat} {P : Nat → Nat → Prop} (h : ∀ f a, l.contains f = false → ¬ P f a) {m : List Nat} (hm : m.all (fun f => !l.contains f) = true) : ∀ f a, m.contains f = true → ¬ P f a := fun f a hf => h f a (by
  rw [List.all_eq_true] at hm
  simpa using hm f (List.contains_iff_mem.mp hf))
/-- cells that aren't lists change -/
theorem RS.ch {P : Nat → Nat → Prop} {h h' : AH} {R W Q T n : Nat} {B : Nat → Nat} {p : Nat} {ts : TL} {cs : List Ix} (q : Fr P h h') (np : ∀ f a, (stF ++ srF ++ tcF ++ [1411, 1409, 10000 + 353]).contains f = true → ¬ P f a) {p' : Nat} (hp : p ≤ p') (hp' : p' ≤ n) (ha : h'.I 1410 R = nI p') (s : RS h R W Q T n B p ts cs) : RS h' R W Q T n B p' ts cs := by
  obtain ⟨⟨s1, s2, s3⟩, s4, s5, s6, ⟨s7, s8⟩, s9, s10⟩ := s
  have np' : ∀ l : List Nat, l.all (fun f => (stF ++ srF ++ tcF ++ [1411, 1409, 10000 + 353]).contains f) = true → ∀ f a, l.contains f = true → ¬ P f a := fun l hl f a hf => np f a (by
    rw [List.all_eq_true] at hl
    exact hl f (List.contains_iff_mem.mp hf))
  exact ⟨⟨s1.fr q (np' _ rfl), by rw [q.R (np _ _ rfl)]; exact s2, s3.fr q (np' _ rfl)⟩, s4.fr q (fun a => np _ a rfl) (fun a => np _ a rfl), ha, hp', ⟨s7.fr q (np _ _ rfl) (np _ _ rfl) (np _ _ rfl), by omega⟩, s9.fr q (np _ _ rfl) (np _ _ rfl) (np _ _ rfl) (np _ _ rfl) (np _ _ rfl), by omega⟩
/-! contracts: a fault is thrown, with its place -/
/-- what is thrown -/
def TE (K : Outcome → AH → Prop) (R W T : Nat) (h : AH) (w q : Nat) : Prop := ∀ h', Fq (RQ T) h h' → h'.I 1412 R = nI w → h'.I 1413 R = nI q → K (.threw W) h'
theorem TE.fq {K : Outcome → AH → Prop} {R W T : Nat} {h h1 : AH} {w q : Nat} (f : Fq (RQ T) h h1) (t : TE K R W T h w q) : TE K R W T h1 w q := fun h' f' e1 e2 => t h' (f.trans f') e1 e2
theorem TE.rg {K : Outcome → AH → Prop} {R W T : Nat} {h h1 : AH} {w q : Nat} (f : Fq (RG T) h h1) (t : TE K R W T h w q) : TE K R W T h1 w q := TE.fq (f.mono RG.rq) t
theorem rneed_ok {G : Gt} {d : Nat} {h : AH} {K : Outcome → AH → Prop} {R W Q T w q p : Nat} {b : Bool} (hs : SRd h R W Q) (hd : 1 ≤ d) (kk : PQ (nd b w q p) (fun _ _ => K (.returned none) h) (TE K R W T h)) : MW G d e_X12_need [.ref R, .int (bI b), .int (nI w), .int (nI q)] h K := by
  refine st_X12_need fun X o hG hD hf => ?_
  obtain ⟨s1, s2, s3, s4, s5, s6⟩ := hs
  cases b with
  | true =>
    refine k_X12_need_0 o (fun c => ?_) (fun c => ?_)
    rotate_left
    · exact absurd c (by decide)
    refine k_X12_need_10 o ?_
    refine (kk)
  | false =>
    refine k_X12_need_0 o (fun c => ?_) (fun c => ?_)
    · exact absurd rfl c
    refine k_X12_need_4 o ?_
    refine st_X12_fail fun X' o' hG' hD' _ => ?_
    refine k_X12_fail_0 o' ?_
    refine kk _ (Fq.sI (Fq.sI (Fq.refl h) (Or.inl rfl)) (Or.inl rfl)) ?_ ?_
    · simp [n_sI, z_sI, tag_sI, I_sI, J_sI, R_sI, EI_sI, EJ_sI, ER_sI, n_sJ, z_sJ, tag_sJ, I_sJ, J_sJ, R_sJ, EI_sJ, EJ_sJ, ER_sJ, n_sR, z_sR, tag_sR, I_sR, J_sR, R_sR, EI_sR, EJ_sR, ER_sR, n_sEI, z_sEI, tag_sEI, I_sEI, J_sEI, R_sEI, EI_sEI, EJ_sEI, ER_sEI, n_sEJ, z_sEJ, tag_sEJ, I_sEJ, J_sEJ, R_sEJ, EI_sEJ, EJ_sEJ, ER_sEJ, n_sER, z_sER, tag_sER, I_sER, J_sER, R_sER, EI_sER, EJ_sER, ER_sER, n_nw, z_nw, tag_nw, I_nw, J_nw, R_nw, EI_nw, EJ_nw, ER_nw]
    · simp [n_sI, z_sI, tag_sI, I_sI, J_sI, R_sI, EI_sI, EJ_sI, ER_sI, n_sJ, z_sJ, tag_sJ, I_sJ, J_sJ, R_sJ, EI_sJ, EJ_sJ, ER_sJ, n_sR, z_sR, tag_sR, I_sR, J_sR, R_sR, EI_sR, EJ_sR, ER_sR, n_sEI, z_sEI, tag_sEI, I_sEI, J_sEI, R_sEI, EI_sEI, EJ_sEI, ER_sEI, n_sEJ, z_sEJ, tag_sEJ, I_sEJ, J_sEJ, R_sEJ, EI_sEJ, EJ_sEJ, ER_sEJ, n_sER, z_sER, tag_sER, I_sER, J_sER, R_sER, EI_sER, EJ_sER, ER_sER, n_nw, z_nw, tag_nw, I_nw, J_nw, R_nw, EI_nw, EJ_nw, ER_nw]
theorem raF.tb {l : List Nat} (hl : l.all (fun f => raF.contains f) = true) {T : Nat} : ∀ f a, FS l f a → RQ T f a := fun f a q => Or.inl (FS.mono (l := raF) rfl f a (FS.mono hl f a q))
theorem rnext_ok {G : Gt} {d : Nat} {h : AH} {K : Outcome → AH → Prop} {R W Q T n p : Nat} {B : Nat → Nat} (hs : SRd h R W Q) (hb : TPb h R n B) (ha : h.I 1410 R = nI p) (hp : p ≤ n) (hd : 2 ≤ d)
    (kk : PQ (rdB n B p) (fun a p' => ∀ h', Fq (FS [1410]) h h' → h'.I 1410 R = nI p' → K (.returned (some (.int (nI a)))) h') (TE K R W T h)) : MW G d e_X12_next [.ref R] h K := by
  refine st_X12_next fun X o hG hD hf => ?_
  subst hG; subst hD
  obtain ⟨b1, b2, b3, b4⟩ := hb
  have s1 := hs.1
  unfold rdB at kk
  refine k_X12_next_0 o (fun c => ?_) (fun c => ?_)
  · have c : ¬ p < n := by have := (nI_leI (by omega) (by omega)).mp c; omega
    rw [if_neg c] at kk
    refine k_X12_next_16 o ?_
    refine k_X12_next_17 o ?_
    exact rneed_ok (b := false) (p := 0) hs (by omega) kk
  · have c : p < n := by
      rcases Nat.lt_or_ge p n with z | z
      · exact z
      · exact absurd ((nI_leI (by omega) (by omega)).mpr z) c
    rw [if_pos c] at kk
    refine k_X12_next_12 o ?_
    refine k_X12_next_17 o ?_
    refine rneed_ok (b := true) (p := 0) (T := T) hs (by omega) ?_
    have s2 := hs.2.1
    have s3 := hs.2.2.1
    have ix : IX ((nI p + nI 1) - nI 1) 2048 p := by rw [nI_add, nI_sub (by omega)]; exact IX.mk (by omega) (by omega)
    refine k_X12_next_25 o ?_
    rw [b4 p c, nI_add]
    exact kk _ ((Fq.refl h).sI rfl) (I_same ..)
theorem lN_sh8 (v b : Nat) (hb : b < 256) : (lN v <<< ((nI 8).toInt64 &&& 63)) ||| (nI b).toInt64 = lN (256 * v + b) := by
  refine un_inj ?_
  rw [un_or, un_shl _ (by omega), nI_l (by omega), un_l (n := b) (by omega)]
  show un (lN v) <<< 8 % 18446744073709551616 ||| b = un (lN (256 * v + b))
  have e1 : un (lN v) = v % 18446744073709551616 := un_lm v
  have e2 : un (lN (256 * v + b)) = (256 * v + b) % 18446744073709551616 := un_lm _
  rw [e1, e2, Nat.shiftLeft_eq]
  have h1 : v % 18446744073709551616 * 2 ^ 8 % 18446744073709551616 = (v * 256 % 18446744073709551616) := by rw [Nat.mod_mul_mod]
  have e3 : (18446744073709551616 : Nat) = 72057594037927936 * 256 := rfl
  have h2 : v * 256 % 18446744073709551616 = (v % 72057594037927936) * 256 := by rw [e3, Nat.mul_mod_mul_right]
  have h4 : (256 * v + b) / 256 = v := by omega
  have h5 : (256 * v + b) % 256 = b := by omega
  have h3 : (256 * v + b) % 18446744073709551616 = (v % 72057594037927936) * 256 + b := by
    rw [e3, Nat.mul_comm 72057594037927936 256, Nat.mod_mul, h4, h5]; omega
  rw [h1, h2]
  rw [h3, show (256 : Nat) = 2 ^ 8 from rfl, ← Nat.shiftLeft_eq]
  exact (Nat.shiftLeft_add_eq_or_of_lt (by omega) _).symm
theorem rnumber_ok {G : Gt} {d : Nat} {h : AH} {K : Outcome → AH → Prop} {R W Q T n p k : Nat} {B : Nat → Nat} (hs : SRd h R W Q) (hb : TPb h R n B) (ha : h.I 1410 R = nI p) (hp : p ≤ n) (hk : k ≤ 8) (hd : 3 ≤ d)
    (kk : PQ (rdN n B k 0 p) (fun a p' => p ≤ p' → p' ≤ n → ∀ h', Fq (FS [1410]) h h' → h'.I 1410 R = nI p' → K (.returned (some (.long (lN a)))) h') (TE K R W T h)) : MW G d e_X12_number [.ref R, .int (nI k)] h K := by
  refine st_X12_number fun X o hG hD hf => ?_
  subst hG; subst hD
  have loop : ∀ m j v p1 h1, m + j = k → p ≤ p1 → p1 ≤ n → Fq (FS [1410]) h h1 → h1.I 1410 R = nI p1 → PQ (rdN n B m v p1) (fun a p' => p ≤ p' → p' ≤ n → ∀ h', Fq (FS [1410]) h h' → h'.I 1410 R = nI p' → K (.returned (some (.long (lN a)))) h') (TE K R W T h) → V X K 5 [.ref R, .int (nI k), .long (lN v), nov, .int (nI j)] [] h1 := by
    intro m
    induction m with
    | zero =>
      intro j v p1 h1 hj hq hq2 f1 a1 k1
      refine k_X12_number_5 o (fun c => ?_) (fun c => ?_)
      rotate_left
      · exact absurd ((nI_leI (by omega) (by omega)).mpr (by omega)) c
      refine k_X12_number_28 o ?_
      refine (k1 hq hq2 h1 f1 a1)
    | succ m ih =>
      intro j v p1 h1 hj hq hq2 f1 a1 k1
      have hs1 := hs.fr f1.1 (FS.no rfl)
      have t1 := hs1.1
      refine k_X12_number_5 o (fun c => ?_) (fun c => ?_)
      · exact absurd ((nI_leI (by omega) (by omega)).mp c) (by omega)
      refine k_X12_number_11 o ?_
      refine rnext_ok (T := T) hs1 (hb.fr f1.1 (fun a => FS.n rfl) (fun a => FS.n rfl)) a1 (by omega) (by omega) ?_
      refine (PQ_bd.mp k1).mono (fun b p2 e k2 h2 f2 a2 => ?_) (fun w q t => t.fq (f1.mono (raF.tb rfl)))
      obtain ⟨rfl, rfl, e3⟩ := rdB_ok e
      refine k_X12_number_19 o ?_
      rw [lN_sh8 _ _ (hb.2.2.1 _), nI_add]
      exact ih (j + 1) _ _ h2 (by omega) (by omega) (by omega) (f1.trans f2) a2 k2
  refine k_X12_number_0 o ?_
  exact loop k 0 0 p h (by omega) (Nat.le_refl _) hp (Fq.refl h) ha kk
