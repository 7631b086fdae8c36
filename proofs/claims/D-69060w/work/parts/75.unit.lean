/-! the twin's module by its bytes: its shape -/
def SUn (h : AH) (U : Nat) : Prop :=
  h.tag U = some (28, 0) ∧
  (h.R 3584 U = some (U + 1) ∧ h.R 3595 U = some (U + 2) ∧ h.R 3596 U = some (U + 3) ∧ h.R 3597 U = some (U + 4) ∧ h.R 3598 U = some (U + 5) ∧ h.R 3599 U = some (U + 6) ∧ h.R 3600 U = some (U + 7) ∧ h.R 3601 U = some (U + 8)) ∧
  (h.tag (U + 1) = some (2129, 2048) ∧ h.tag (U + 2) = some (2144, 64) ∧ h.tag (U + 3) = some (2160, 32) ∧ h.tag (U + 4) = some (2176, 32) ∧ h.tag (U + 5) = some (2192, 64) ∧ h.tag (U + 6) = some (2208, 65) ∧ h.tag (U + 7) = some (2224, 2049) ∧ h.tag (U + 8) = some (2242, 32))
def suF : List Nat := [3584, 3595, 3596, 3597, 3598, 3599, 3600, 3601]
theorem SUn.fr {P : Nat → Nat → Prop} {h h' : AH} {U : Nat} (q : Fr P h h') (np : ∀ f a, suF.contains f = true → ¬ P f a) (s : SUn h U) : SUn h' U := by
  obtain ⟨s0, ⟨a1, a2, a3, a4, a5, a6, a7, a8⟩, b1, b2, b3, b4, b5, b6, b7, b8⟩ := s
  refine ⟨q.tag s0, ⟨?_, ?_, ?_, ?_, ?_, ?_, ?_, ?_⟩, q.tag b1, q.tag b2, q.tag b3, q.tag b4, q.tag b5, q.tag b6, q.tag b7, q.tag b8⟩
  · rw [q.R (np _ _ rfl)]; exact a1
  · rw [q.R (np _ _ rfl)]; exact a2
  · rw [q.R (np _ _ rfl)]; exact a3
  · rw [q.R (np _ _ rfl)]; exact a4
  · rw [q.R (np _ _ rfl)]; exact a5
  · rw [q.R (np _ _ rfl)]; exact a6
  · rw [q.R (np _ _ rfl)]; exact a7
  · rw [q.R (np _ _ rfl)]; exact a8
def UBy (h : AH) (U n : Nat) (B : Nat → Nat) : Prop := h.I 3585 U = nI n ∧ n ≤ 2048 ∧ (∀ i, B i < 256) ∧ (∀ i, n ≤ i → B i = 0) ∧ ∀ i, i < n → h.EI 2129 (U + 1) i &&& nI 255 = nI (B i)
/-- fields of the unit at U and its rows -/
def UQ (l : List Nat) (U f a : Nat) : Prop := FS l f a ∧ U ≤ a ∧ a ≤ U + 8
theorem UQ.n {l : List Nat} {U f a : Nat} (h : l.contains f = false) : ¬ UQ l U f a := fun z => FS.n h z.1
theorem UQ.out {l : List Nat} {U f a : Nat} (h : a < U ∨ U + 8 < a) : ¬ UQ l U f a := fun z => by have := z.2; omega
theorem UQ.mono {l l' : List Nat} {U : Nat} (h : l.all (fun f => l'.contains f) = true) : ∀ f a, UQ l U f a → UQ l' U f a := fun f a z => ⟨FS.mono h f a z.1, z.2⟩
def SU (h : AH) (U n : Nat) (B : Nat → Nat) : Prop := SUn h U ∧ UBy h U n B
def sbF : List Nat := suF ++ [3585, 10000 + 2129]
theorem SU.fr {P : Nat → Nat → Prop} {h h' : AH} {U n : Nat} {B : Nat → Nat} (q : Fr P h h') (np : ∀ f a, sbF.contains f = true → U ≤ a → a ≤ U + 8 → ¬ P f a) (s : SU h U n B) : SU h' U n B := by
  obtain ⟨⟨s0, ⟨a1, a2, a3, a4, a5, a6, a7, a8⟩, b1, b2, b3, b4, b5, b6, b7, b8⟩, s2, s3, s4, s5, s6⟩ := s
  have np' : ∀ f, sbF.contains f = true → ¬ P f U := fun f hf => np f U hf (Nat.le_refl _) (by omega)
  refine ⟨⟨q.tag s0, ⟨?_, ?_, ?_, ?_, ?_, ?_, ?_, ?_⟩, q.tag b1, q.tag b2, q.tag b3, q.tag b4, q.tag b5, q.tag b6, q.tag b7, q.tag b8⟩, ?_, s3, s4, s5, fun i hi => ?_⟩
  · rw [q.R (np' _ rfl)]; exact a1
  · rw [q.R (np' _ rfl)]; exact a2
  · rw [q.R (np' _ rfl)]; exact a3
  · rw [q.R (np' _ rfl)]; exact a4
  · rw [q.R (np' _ rfl)]; exact a5
  · rw [q.R (np' _ rfl)]; exact a6
  · rw [q.R (np' _ rfl)]; exact a7
  · rw [q.R (np' _ rfl)]; exact a8
  · rw [q.I (np' _ rfl)]; exact s2
  · rw [q.EI (np _ _ rfl (by omega) (by omega))]; exact s6 i hi
theorem SU.uq {l : List Nat} {h h' : AH} {U n : Nat} {B : Nat → Nat} (s : SU h U n B) (q : Fq (UQ l U) h h') (hl : sbF.all (fun f => !l.contains f) = true) : SU h' U n B := s.fr q.1 fun f a hf _ _ z => FS.no hl f a hf z.1
/-! bytes -/
theorem ugood_ok {G : Gt} {d : Nat} {h : AH} {K : Outcome → AH → Prop} {U : Nat} (hU : h.tag U = some (28, 0)) (hf : h.I 3587 U = 0) (kk : K (.returned (some (.int (nI 1)))) h) : MW G d e_X29_isGood [.ref U] h K := by
  refine st_X29_isGood fun X o hG hD _ => ?_
  subst hG; subst hD
  refine k_X29_isGood_0 o (fun c => ?_) (fun c => ?_)
  · exact absurd rfl c
  refine k_X29_isGood_7 o ?_
  refine k_X29_isGood_12 o ?_
  exact kk
theorem ubad_ok {G : Gt} {d : Nat} {h : AH} {K : Outcome → AH → Prop} {U : Nat} (hU : h.tag U = some (28, 0)) (hf : h.I 3587 U ≠ 0) (kk : K (.returned (some (.int (nI 0)))) h) : MW G d e_X29_isGood [.ref U] h K := by
  refine st_X29_isGood fun X o hG hD _ => ?_
  subst hG; subst hD
  refine k_X29_isGood_0 o (fun c => ?_) (fun c => ?_)
  · refine k_X29_isGood_11 o ?_
    refine k_X29_isGood_12 o ?_
    exact kk
  · exact absurd c hf
theorem ubyte_ok {G : Gt} {d : Nat} {h : AH} {K : Outcome → AH → Prop} {U n p : Nat} {B : Nat → Nat} (hs : SU h U n B) (hp : p < 2147483648) (kk : K (.returned (some (.int (nI (B p))))) h) : MW G d e_X29_byteAt [.ref U, .int (nI p)] h K := by
  refine st_X29_byteAt fun X o hG hD _ => ?_
  subst hG; subst hD
  obtain ⟨⟨s0, ⟨a1, a2, a3, a4, a5, a6, a7, a8⟩, b1, b2, b3, b4, b5, b6, b7, b8⟩, s2, s3, s4, s5, s6⟩ := id hs
  refine k_X29_byteAt_0 o (fun c => ?_) (fun c => ?_)
  · have c := (nI_leI (by omega) (by omega)).mp c
    rw [s5 p c] at kk
    refine k_X29_byteAt_21 o ?_
    refine k_X29_byteAt_22 o ?_
    exact kk
  · have c : p < n := Nat.not_le.mp fun z => c ((nI_leI (by omega) (by omega)).mpr z)
    have ix : IX (nI p) 2048 p := IX.mk (by omega) (by omega)
    refine k_X29_byteAt_8 o ?_
    rw [s6 p c]
    refine k_X29_byteAt_22 o ?_
    exact kk
theorem ushort_ok {G : Gt} {d : Nat} {h : AH} {K : Outcome → AH → Prop} {U n p : Nat} {B : Nat → Nat} (hs : SU h U n B) (hp : p + 1 < 2147483648) (hd : 1 ≤ d) (kk : K (.returned (some (.int (nI (256 * B p + B (p + 1)))))) h) : MW G d e_X29_shortAt [.ref U, .int (nI p)] h K := by
  refine st_X29_shortAt fun X o hG hD _ => ?_
  subst hG; subst hD
  have s0 := hs.1.1
  refine k_X29_shortAt_0 o ?_
  refine ubyte_ok hs (by omega) ?_
  show V X K 8 [.ref U, .int (nI p)] [.int (nI (B p)), .int (nI 256)] h
  refine k_X29_shortAt_8 o ?_
  rw [nI_add, nI_mul]
  refine ubyte_ok hs (by omega) ?_
  show V X K 16 [.ref U, .int (nI p)] [.int (nI (B (p + 1))), .int (nI (256 * B p))] h
  refine k_X29_shortAt_16 o ?_
  rw [nI_add]
  exact kk
def uaF : List Nat := [3586, 3587, 3588]
/-- a fault was found -/
def UE (K : Outcome → AH → Prop) (l : List Nat) (U : Nat) (h : AH) (r : Outcome) (w q : Nat) : Prop := ∀ h', Fq (UQ l U) h h' → h'.I 3587 U = nI w → h'.I 3587 U ≠ 0 → h'.I 3588 U = nI q → K r h'
theorem UE.fq {K : Outcome → AH → Prop} {l : List Nat} {U : Nat} {h h1 : AH} {r : Outcome} {w q : Nat} (f : Fq (UQ l U) h h1) (t : UE K l U h r w q) : UE K l U h1 r w q := fun h' f' e1 e2 e3 => t h' (f.trans f') e1 e2 e3
theorem UE.mono {K K' : Outcome → AH → Prop} {l l' : List Nat} {U : Nat} {h : AH} {r r' : Outcome} {w q : Nat} (t : UE K l U h r w q) (hl : l'.all (fun f => l.contains f) = true) (hk : ∀ h', Fq (UQ l' U) h h' → h'.I 3587 U ≠ 0 → h'.I 3587 U = nI w → h'.I 3588 U = nI q → K r h' → K' r' h') : UE K' l' U h r' w q := fun h' f' e1 e2 e3 => hk h' f' e2 e1 e3 (t h' (f'.mono (UQ.mono hl)) e1 e2 e3)
theorem ufail_ok {G : Gt} {d : Nat} {h : AH} {K : Outcome → AH → Prop} {U w q : Nat} (hU : h.tag U = some (28, 0)) (hf : h.I 3587 U = 0) (hw : nI w ≠ 0) (kk : UE K [3587, 3588] U h (.returned none) w q) : MW G d e_X29_fail [.ref U, .int (nI w), .int (nI q)] h K := by
  refine st_X29_fail fun X o hG hD _ => ?_
  subst hG; subst hD
  refine k_X29_fail_0 o (fun c => ?_) (fun c => ?_)
  · refine k_X29_fail_8 o ?_
    refine kk _ (((Fq.refl h).sI ⟨rfl, Nat.le_refl _, by omega⟩).sI ⟨rfl, Nat.le_refl _, by omega⟩) ?_ ?_ ?_
    · simp [n_sI, z_sI, tag_sI, I_sI, J_sI, R_sI, EI_sI, EJ_sI, ER_sI, n_sJ, z_sJ, tag_sJ, I_sJ, J_sJ, R_sJ, EI_sJ, EJ_sJ, ER_sJ, n_sR, z_sR, tag_sR, I_sR, J_sR, R_sR, EI_sR, EJ_sR, ER_sR, n_sEI, z_sEI, tag_sEI, I_sEI, J_sEI, R_sEI, EI_sEI, EJ_sEI, ER_sEI, n_sEJ, z_sEJ, tag_sEJ, I_sEJ, J_sEJ, R_sEJ, EI_sEJ, EJ_sEJ, ER_sEJ, n_sER, z_sER, tag_sER, I_sER, J_sER, R_sER, EI_sER, EJ_sER, ER_sER, n_nw, z_nw, tag_nw, I_nw, J_nw, R_nw, EI_nw, EJ_nw, ER_nw]
    · simpa [n_sI, z_sI, tag_sI, I_sI, J_sI, R_sI, EI_sI, EJ_sI, ER_sI, n_sJ, z_sJ, tag_sJ, I_sJ, J_sJ, R_sJ, EI_sJ, EJ_sJ, ER_sJ, n_sR, z_sR, tag_sR, I_sR, J_sR, R_sR, EI_sR, EJ_sR, ER_sR, n_sEI, z_sEI, tag_sEI, I_sEI, J_sEI, R_sEI, EI_sEI, EJ_sEI, ER_sEI, n_sEJ, z_sEJ, tag_sEJ, I_sEJ, J_sEJ, R_sEJ, EI_sEJ, EJ_sEJ, ER_sEJ, n_sER, z_sER, tag_sER, I_sER, J_sER, R_sER, EI_sER, EJ_sER, ER_sER, n_nw, z_nw, tag_nw, I_nw, J_nw, R_nw, EI_nw, EJ_nw, ER_nw] using hw
    · simp [n_sI, z_sI, tag_sI, I_sI, J_sI, R_sI, EI_sI, EJ_sI, ER_sI, n_sJ, z_sJ, tag_sJ, I_sJ, J_sJ, R_sJ, EI_sJ, EJ_sJ, ER_sJ, n_sR, z_sR, tag_sR, I_sR, J_sR, R_sR, EI_sR, EJ_sR, ER_sR, n_sEI, z_sEI, tag_sEI, I_sEI, J_sEI, R_sEI, EI_sEI, EJ_sEI, ER_sEI, n_sEJ, z_sEJ, tag_sEJ, I_sEJ, J_sEJ, R_sEJ, EI_sEJ, EJ_sEJ, ER_sEJ, n_sER, z_sER, tag_sER, I_sER, J_sER, R_sER, EI_sER, EJ_sER, ER_sER, n_nw, z_nw, tag_nw, I_nw, J_nw, R_nw, EI_nw, EJ_nw, ER_nw]
  · exact absurd rfl c
theorem ufail1_ok {G : Gt} {d : Nat} {h : AH} {K : Outcome → AH → Prop} {U w q : Nat} (hU : h.tag U = some (28, 0)) (hf : h.I 3587 U ≠ 0) (kk : K (.returned none) h) : MW G d e_X29_fail [.ref U, .int (nI w), .int (nI q)] h K := by
  refine st_X29_fail fun X o hG hD _ => ?_
  subst hG; subst hD
  refine k_X29_fail_0 o (fun c => ?_) (fun c => ?_)
  · exact absurd c hf
  · refine k_X29_fail_7 o ?_
    exact kk
theorem uover_ok {G : Gt} {d : Nat} {h : AH} {K : Outcome → AH → Prop} {U n p k : Nat} {B : Nat → Nat} (hs : SU h U n B) (ha : h.I 3586 U = nI p) (hp : p ≤ n) (hf : h.I 3587 U = 0) (hk : k ≤ 16) (hd : 1 ≤ d)
    (k1 : p + k ≤ n → ∀ h', Fq (UQ [3586] U) h h' → h'.I 3586 U = nI (p + k) → K (.returned (some (.int (nI p)))) h') (k2 : n < p + k → UE K uaF U h (.returned (some (.int (nI p)))) 2 n) : MW G d e_X29_over [.ref U, .int (nI k)] h K := by
  refine st_X29_over fun X o hG hD _ => ?_
  subst hG; subst hD
  have s0 := hs.1.1
  have s2 := hs.2.1
  have hn := hs.2.2.1
  refine k_X29_over_0 o (fun c => ?_) (fun c => ?_)
  · rw [nI_add] at c
    have c := (nI_leI (by omega) (by omega)).mp c
    refine k_X29_over_30 o ?_
    refine k_X29_over_40 o ?_
    rw [nI_add]
    exact k1 c _ ((Fq.refl h).sI ⟨rfl, Nat.le_refl _, by omega⟩) (I_same ..)
  · rw [nI_add] at c
    have c : n < p + k := Nat.not_le.mp fun z => c ((nI_leI (by omega) (by omega)).mpr z)
    refine k_X29_over_18 o ?_
    refine ufail_ok s0 hf (by decide) fun h' f' e1 e2 e3 => ?_
    refine k_X29_over_27 o ?_
    refine k_X29_over_40 o ?_
    exact k2 c h' (f'.mono (UQ.mono rfl)) e1 e2 e3
theorem rdN_if {n : Nat} {B : Nat → Nat} : ∀ (k : Nat) {v p : Nat}, p ≤ n → (p + k ≤ n → ∃ v', rdN n B k v p = .ok (v', p + k)) ∧ (n < p + k → rdN n B k v p = .error (2, n)) := by
  intro k
  induction k with
  | zero => intro v p hp; exact ⟨fun _ => ⟨v, rfl⟩, fun z => by omega⟩
  | succ k ih =>
    intro v p hp
    show (_ → ∃ v', bd (rdB n B p) (fun b p' => rdN n B k (256 * v + b) p') = _) ∧ (_ → bd (rdB n B p) (fun b p' => rdN n B k (256 * v + b) p') = _)
    unfold rdB
    by_cases c : p < n
    · rw [if_pos c]
      have := ih (v := 256 * v + B p) (p := p + 1) (by omega)
      rw [show p + 1 + k = p + (k + 1) by omega] at this
      exact this
    · rw [if_neg c]
      exact ⟨fun z => by omega, fun _ => rfl⟩
theorem uoverN_ok {G : Gt} {d : Nat} {h : AH} {K : Outcome → AH → Prop} {U n p k v : Nat} {B : Nat → Nat} (hs : SU h U n B) (ha : h.I 3586 U = nI p) (hp : p ≤ n) (hf : h.I 3587 U = 0) (hk : k ≤ 16) (hd : 1 ≤ d)
    (kk : PQ (rdN n B k v p) (fun _ p' => p' ≤ n → ∀ h', Fq (UQ [3586] U) h h' → h'.I 3586 U = nI p' → K (.returned (some (.int (nI p)))) h') (UE K uaF U h (.returned (some (.int (nI p)))))) : MW G d e_X29_over [.ref U, .int (nI k)] h K := by
  have := rdN_if (n := n) (B := B) k (v := v) hp
  refine uover_ok hs ha hp hf hk hd (fun c => ?_) (fun c => ?_)
  · obtain ⟨v', e⟩ := this.1 c
    rw [e] at kk; exact kk c
  · rw [this.2 c] at kk; exact kk
theorem uover1_ok {G : Gt} {d : Nat} {h : AH} {K : Outcome → AH → Prop} {U n p : Nat} {B : Nat → Nat} (hs : SU h U n B) (ha : h.I 3586 U = nI p) (hp : p ≤ n) (hf : h.I 3587 U = 0) (hd : 1 ≤ d)
    (kk : PQ (rdB n B p) (fun _ p' => ∀ h', Fq (UQ [3586] U) h h' → h'.I 3586 U = nI p' → K (.returned (some (.int (nI p)))) h') (UE K uaF U h (.returned (some (.int (nI p)))))) : MW G d e_X29_over [.ref U, .int (nI 1)] h K := by
  unfold rdB at kk
  refine uover_ok hs ha hp hf (by omega) hd (fun c => ?_) (fun c => ?_)
  · rw [if_pos (by omega)] at kk; exact kk
  · rw [if_neg (by omega)] at kk; exact kk
theorem ucount_ok {G : Gt} {d : Nat} {h : AH} {K : Outcome → AH → Prop} {U n p lo hi : Nat} {B : Nat → Nat} (hs : SU h U n B) (ha : h.I 3586 U = nI p) (hp : p ≤ n) (hf : h.I 3587 U = 0) (hlo : lo < 256) (hhi : hi < 256) (hd : 2 ≤ d)
    (kk : PQ (rdC n B lo hi p) (fun v p' => p' ≤ n → v ≤ hi → ∀ h', Fq (UQ [3586] U) h h' → h'.I 3586 U = nI p' → K (.returned (some (.int (nI v)))) h') (UE K uaF U h (.returned (some (.int (nI 0)))))) : MW G d e_X29_count [.ref U, .int (nI lo), .int (nI hi)] h K := by
  refine st_X29_count fun X o hG hD _ => ?_
  subst hG; subst hD
  have s0 := hs.1.1
  have hn := hs.2.2.1
  have hB := hs.2.2.2.1 p
  have kk := PQ_bd.mp kk
  -- a fault
  have bad : ∀ hx, hx.tag U = some (28, 0) → hx.I 3587 U ≠ 0 → K (.returned (some (.int (nI 0)))) hx → V X K 37 [.ref U, .int (nI lo), .int (nI hi), .int (nI p)] [] hx := fun hx u0 uf k => by
    refine k_X29_count_37 o ?_
    refine ubad_ok u0 uf ?_
    refine k_X29_count_41 o (fun c => ?_) (fun c => ?_)
    · refine k_X29_count_52 o ?_
      refine k_X29_count_53 o ?_
      exact k
    · exact absurd rfl c
  refine k_X29_count_0 o ?_
  refine uover1_ok hs ha hp hf (by omega) (kk.mono (fun b p1 e k2 h1 f1 a1 => ?_) (fun w q t h' f' e1 e2 e3 => ?_))
  rotate_left
  · have u0 := f'.1.tag s0
    show V X K 5 [.ref U, .int (nI lo), .int (nI hi), nov] [.int (nI p)] h'
    refine k_X29_count_5 o ?_
    refine ubad_ok u0 e2 ?_
    refine k_X29_count_10 o (fun c => ?_) (fun c => ?_)
    · exact bad h' u0 e2 (t h' f' e1 e2 e3)
    · exact absurd rfl c
  obtain ⟨rfl, rfl, hpn⟩ := rdB_ok e
  have s1 := hs.uq f1 rfl
  have u0 := s1.1.1
  have uf : h1.I 3587 U = 0 := by rw [f1.1.I (UQ.n rfl)]; exact hf
  have k2 := PQ_bd.mp k2
  show V X K 5 [.ref U, .int (nI lo), .int (nI hi), nov] [.int (nI p)] h1
  refine k_X29_count_5 o ?_
  refine ugood_ok u0 uf ?_
  have fl : ¬ (lo ≤ B p ∧ B p ≤ hi) → V X K 31 [.ref U, .int (nI lo), .int (nI hi), .int (nI p)] [] h1 := fun c => by
    unfold nd at k2
    rw [decide_eq_false c] at k2
    refine k_X29_count_31 o ?_
    refine ufail_ok u0 uf (by decide) fun h' f' e1 e2 e3 => ?_
    exact bad h' (f'.1.tag u0) e2 (k2 h' ((f1.mono (UQ.mono rfl)).trans (f'.mono (UQ.mono rfl))) e1 e2 e3)
  refine k_X29_count_10 o (fun c => ?_) (fun _ => ?_)
  · exact absurd c (by decide)
  refine k_X29_count_13 o ?_
  refine ubyte_ok s1 (by omega) ?_
  refine k_X29_count_18 o (fun c => ?_) (fun c => ?_)
  · have c := (nI_ltI (by omega) (by omega)).mp c
    exact fl (by omega)
  have c1 : lo ≤ B p := Nat.not_lt.mp fun z => c ((nI_ltI (by omega) (by omega)).mpr z)
  refine k_X29_count_22 o ?_
  refine ubyte_ok s1 (by omega) ?_
  refine k_X29_count_27 o (fun c => ?_) (fun c => ?_)
  rotate_left
  · exact fl fun z => c ((nI_leI (by omega) (by omega)).mpr z.2)
  have c2 := (nI_leI (by omega) (by omega)).mp c
  unfold nd at k2
  rw [decide_eq_true ⟨c1, c2⟩] at k2
  refine k_X29_count_37 o ?_
  refine ugood_ok u0 uf ?_
  refine k_X29_count_41 o (fun c => ?_) (fun _ => ?_)
  · exact absurd c (by decide)
  refine k_X29_count_44 o ?_
  refine ubyte_ok s1 (by omega) ?_
  refine k_X29_count_49 o ?_
  refine k_X29_count_53 o ?_
  exact k2 (by omega) c2 h1 f1 a1
