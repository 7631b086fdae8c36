/-! the twin's digest: bytes that were added -/
theorem nI_div {a b : Nat} (ha : a < 2147483648) (hb : 0 < b) (hb2 : b < 2147483648) : nI a / nI b = nI (a / b) := by
  have e : ∀ n, n < 2147483648 → (nI n).toInt = (n : Int) := fun n hn => by rw [toInt_um, um_n (by omega), if_pos hn]
  have hd : a / b < 2147483648 := Nat.lt_of_le_of_lt (Nat.div_le_self ..) ha
  apply Int32.toInt_inj.mp
  rw [Int32.toInt_div, e a ha, e b hb2, e _ hd]
  have : (a : Int).tdiv (b : Int) = ((a / b : Nat) : Int) := by rw [Int.tdiv_eq_ediv_of_nonneg (by omega)]; rfl
  rw [this]
  generalize a / b = c at hd
  exact Int.bmod_eq_of_le (by omega) (by omega)
theorem nI_mod {a b : Nat} (ha : a < 2147483648) (hb : 0 < b) (hb2 : b < 2147483648) : nI a - nI a / nI b * nI b = nI (a % b) := by
  rw [nI_div ha hb hb2, nI_mul, nI_sub (Nat.div_mul_le_self a b)]
  congr 1
  have := Nat.div_add_mod a b
  rw [Nat.mul_comm] at this; omega
theorem un_sx (x : Int32) : un x.toInt64 % 4294967296 = um x := by
  have h1 : x.toInt64.toInt = x.toInt := Int32.toInt_toInt64 x
  have h2 := toInt_un x.toInt64
  have h3 := toInt_um x
  have h4 := um_lt x
  have h5 := un_lt x.toInt64
  rw [h1, h3] at h2
  split at h2 <;> split at h2 <;> omega
theorem un_digq (bs : List Int32) (i : Nat) : un (digq bs i) = um (dig bs (2 * i)) * 4294967296 + um (dig bs (2 * i + 1)) := by
  unfold digq
  have h1 := un_sx (dig bs (2 * i))
  have h2 := un_sx (dig bs (2 * i + 1))
  have h3 := um_lt (dig bs (2 * i + 1))
  have h4 := um_lt (dig bs (2 * i))
  rw [un_or, un_shl _ (by omega), un_and, show un (4294967295 : Int64) = 2 ^ 32 - 1 from rfl, and_m, Nat.shiftLeft_eq]
  rw [show un (dig bs (2 * i)).toInt64 * 2 ^ 32 % 18446744073709551616 = um (dig bs (2 * i)) * 2 ^ 32 by omega]
  rw [show un (dig bs (2 * i + 1)).toInt64 % 2 ^ 32 = um (dig bs (2 * i + 1)) from h2, or_add h3]
theorem em_digq (bs : List Int32) (i : Nat) : (em (dig bs (2 * i)) <<< ((nI 32).toInt64 &&& 63)) ||| em (dig bs (2 * i + 1)) = digq bs i := un_inj (by
  have h3 := um_lt (dig bs (2 * i + 1))
  have h4 := um_lt (dig bs (2 * i))
  rw [un_digq, un_or, un_shl _ (by omega), un_em, un_em, Nat.shiftLeft_eq, Nat.mod_eq_of_lt (by omega), or_add h3])
def MG (h : AH) (D : Nat) (bs : List Int32) : Prop := SMd h D ∧ h.I 3329 D = nI bs.length ∧ ∀ j, j < bs.length → h.EI 1953 (D + 1) j = bs.getD j 0
theorem tbegin_ok {G : Gt} {d : Nat} {h : AH} {K : Outcome → AH → Prop} {D : Nat} (hs : SMd h D) (kk : ∀ h', Fq (FS [3329]) h h' → MG h' D [] → K (.returned none) h') : MW G d e_X27_begin [.ref D] h K := by
  refine st_X27_begin fun X o hG hD hf => ?_
  have t0 := hs.1.1
  refine k_X27_begin_0 o ?_
  refine (kk _ ((Fq.refl h).sI rfl) ⟨hs.fs (l := [3329]) ((Fr.refl h).sI rfl) rfl, by simp [n_sI, z_sI, tag_sI, I_sI, J_sI, R_sI, EI_sI, EJ_sI, ER_sI, n_sJ, z_sJ, tag_sJ, I_sJ, J_sJ, R_sJ, EI_sJ, EJ_sJ, ER_sJ, n_sR, z_sR, tag_sR, I_sR, J_sR, R_sR, EI_sR, EJ_sR, ER_sR, n_sEI, z_sEI, tag_sEI, I_sEI, J_sEI, R_sEI, EI_sEI, EJ_sEI, ER_sEI, n_sEJ, z_sEJ, tag_sEJ, I_sEJ, J_sEJ, R_sEJ, EI_sEJ, EJ_sEJ, ER_sEJ, n_sER, z_sER, tag_sER, I_sER, J_sER, R_sER, EI_sER, EJ_sER, ER_sER, n_nw, z_nw, tag_nw, I_nw, J_nw, R_nw, EI_nw, EJ_nw, ER_nw], fun j hj => by simp at hj⟩)
theorem tadd_ok {G : Gt} {d : Nat} {h : AH} {K : Outcome → AH → Prop} {D : Nat} {x : Int32} {bs : List Int32} (hs : MG h D bs) (hb : bs.length < 4096) (kk : ∀ h', Fq (FS [10000 + 1953, 3329]) h h' → MG h' D (bs ++ [i8 x]) → K (.returned none) h') : MW G d e_X27_add [.ref D, .int x] h K := by
  refine st_X27_add fun X o hG hD hf => ?_
  obtain ⟨s1, s2, s3⟩ := hs
  obtain ⟨⟨e1, e2, e3, e4⟩, e6, e7, e8⟩ := id s1
  have ix : IX (nI bs.length) 4096 bs.length := IX.mk hb (by omega)
  have ee : (x.toInt8.toInt32).toInt8.toInt32 = i8 x := i8_i8 x
  refine k_X27_add_0 o ?_
  rw [ee, nI_add]
  have F1 : Fq (FS [10000 + 1953, 3329]) h ((h.sEI 1953 (D + 1) bs.length (i8 x)).sI 3329 D (nI (bs.length + 1))) := (by refine (Fq.sI (Fq.sEI (Fq.refl h) ?_) ?_) <;> exact rfl)
  refine kk _ F1 ⟨s1.fs F1.1 rfl, by rw [List.length_append]; exact I_same .., fun j hj => ?_⟩
  rw [EI_sI, EI_sEI]
  by_cases q : j = bs.length
  · rw [if_pos ⟨rfl, rfl, q⟩, q, getD_last]
  · rw [if_neg fun z => q z.2.2, s3 j (by simp at hj; omega), getD_app (by simp at hj; omega)]
theorem taddN_ok {G : Gt} {d : Nat} {h : AH} {K : Outcome → AH → Prop} {D n : Nat} {v : Int64} {bs : List Int32} (hs : MG h D bs) (hn : n ≤ 8) (hb : bs.length + n ≤ 4096) (hd : 1 ≤ d) (kk : ∀ h', Fq (FS [10000 + 1953, 3329]) h h' → MG h' D (bs ++ nb v n) → K (.returned none) h') : MW G d e_X27_addNumber [.ref D, .long v, .int (nI n)] h K := by
  refine st_X27_addNumber fun X o hG hD hf => ?_
  subst hG; subst hD
  have loop : ∀ m h1 cs, m ≤ 8 → cs.length + m ≤ 4096 → Fq (FS [10000 + 1953, 3329]) h h1 → MG h1 D cs → cs ++ nb v m = bs ++ nb v n → V X K 5 [.ref D, .long v, nov, .int (nI n), .int (nI m + (-1))] [] h1 := by
    intro m
    induction m with
    | zero =>
      intro h1 cs hn hl f1 s1 e
      refine k_X27_addNumber_5 o (fun c => ?_) (fun c => ?_)
      · refine k_X27_addNumber_28 o ?_
        refine (kk h1 f1 (by rw [← e, show nb v 0 = [] from rfl, List.append_nil]; exact s1))
      · exact absurd (by decide) c
    | succ m ih =>
      intro h1 cs hn hl f1 s1 e
      have en : nI (m + 1) + (-1) = nI m := by rw [← nI_add]; show nI m + 1 + -1 = nI m; rw [Int32.add_assoc]; show nI m + 0 = nI m; rw [Int32.add_zero]
      rw [en]
      have t1 := s1.1.1.1
      refine k_X27_addNumber_5 o (fun c => ?_) (fun c => ?_)
      · exact absurd c (nI_pos (by omega))
      refine k_X27_addNumber_10 o ?_
      rw [nI_mul]
      refine tadd_ok s1 (by omega) fun h2 f2 s2 => ?_
      refine k_X27_addNumber_22 o ?_
      refine ih h2 _ (by omega) (by simp; omega) (f1.trans f2) s2 ?_
      rw [← e]; simp [nb]
  refine k_X27_addNumber_0 o ?_
  rw [show nI n - nI 1 = nI n + (-1) from Int32.sub_eq_add_neg ..]
  exact loop n h bs hn hb (Fq.refl h) hs rfl
theorem tend_ok {G : Gt} {d : Nat} {h : AH} {K : Outcome → AH → Prop} {D : Nat} {bs : List Int32} (hs : MG h D bs) (hc : CT G h) (hb : bs.length ≤ 4000) (hd : 3 ≤ d) (kk : ∀ h', Fq (FS mdF) h h' → MG h' D bs → (∀ j, j < 8 → h'.EJ 1971 (D + 2) j = em (dig bs j)) → K (.returned none) h') : MW G d e_X27_end [.ref D] h K := by
  refine st_X27_end fun X o hG hD hf => ?_
  subst hG; subst hD
  obtain ⟨s1, s2, s3⟩ := id hs
  obtain ⟨⟨e1, e2, e3, e4⟩, e6, e7, e8⟩ := id s1
  have x0 : ∀ k, k < 8 → IX (nI k) 8 k := fun k hk => IX.mk hk (by omega)
  have y0 := x0 0 (by omega)
  have y1 := x0 1 (by omega)
  have y2 := x0 2 (by omega)
  have y3 := x0 3 (by omega)
  have y4 := x0 4 (by omega)
  have y5 := x0 5 (by omega)
  have y6 := x0 6 (by omega)
  have y7 := x0 7 (by omega)
  have pl := pad_len bs
  have pm := pad_mod bs
  have zl : zc bs.length < 64 := Nat.mod_lt _ (by omega)
  have loop2 : ∀ m k h1, m + k = (pad bs).length / 64 → Fq (FS mdF) h h1 → MG h1 D (pad bs) → (∀ j, j < 8 → h1.EJ 1971 (D + 2) j = em (stt (pad bs) k j)) → V X K 120 [.ref D, .int (nI bs.length), .int (nI (64 * k))] [] h1 := by
    intro m
    induction m with
    | zero =>
      intro k h1 hk f1 g1 g2
      have t1 := g1.1.1.1
      have z1 := g1.2.1
      have hk : k = (pad bs).length / 64 := by omega
      refine k_X27_end_120 o (fun c => ?_) (fun c => ?_)
      rotate_left
      · exact absurd ((nI_leI (by omega) (by omega)).mpr (by omega)) c
      refine k_X27_end_139 o (kk _ (f1.sI rfl) ⟨g1.1.fs (l := [3329]) ((Fr.refl h1).sI rfl) rfl, by simp [n_sI, z_sI, tag_sI, I_sI, J_sI, R_sI, EI_sI, EJ_sI, ER_sI, n_sJ, z_sJ, tag_sJ, I_sJ, J_sJ, R_sJ, EI_sJ, EJ_sJ, ER_sJ, n_sR, z_sR, tag_sR, I_sR, J_sR, R_sR, EI_sR, EJ_sR, ER_sR, n_sEI, z_sEI, tag_sEI, I_sEI, J_sEI, R_sEI, EI_sEI, EJ_sEI, ER_sEI, n_sEJ, z_sEJ, tag_sEJ, I_sEJ, J_sEJ, R_sEJ, EI_sEJ, EJ_sEJ, ER_sEJ, n_sER, z_sER, tag_sER, I_sER, J_sER, R_sER, EI_sER, EJ_sER, ER_sER, n_nw, z_nw, tag_nw, I_nw, J_nw, R_nw, EI_nw, EJ_nw, ER_nw], fun j hj => ?_⟩ fun j hj => ?_)
      · rw [EI_sI, g1.2.2 j (by omega)]
        unfold pad
        rw [List.append_assoc, List.append_assoc, getD_app hj]
      · rw [EJ_sI, g2 j hj, hk]; rfl
    | succ m ih =>
      intro k h1 hk f1 g1 g2
      have t1 := g1.1.1.1
      have z1 := g1.2.1
      refine k_X27_end_120 o (fun c => ?_) (fun c => ?_)
      · exact absurd ((nI_leI (by omega) (by omega)).mp c) (by omega)
      refine k_X27_end_128 o ?_
      refine tblock_ok g1.1 (hc.fr f1.1 (FS.n rfl)) (by omega) g2 (by omega) fun h2 f2 p2 => ?_
      refine k_X27_end_133 o ?_
      rw [nI_add, show 64 * k + 64 = 64 * (k + 1) by omega]
      refine ih (k + 1) h2 (by omega) (f1.trans (f2.mono (FS.mono rfl))) ⟨g1.1.fs f2.1 rfl, by rw [f2.1.I (FS.n rfl)]; exact z1, fun j hj => by rw [f2.1.EI (FS.n rfl)]; exact g1.2.2 j hj⟩ fun j hj => ?_
      rw [p2 j hj]
      refine congrArg em (cmp_congr (fun i hi => ?_) (fun i hi => rfl) hj)
      exact g1.2.2 _ (by omega)
  have loop1 : ∀ m k h1, m + k = zc bs.length → Fq (FS mdF) h h1 → MG h1 D (bs ++ [i8 (nI 128)] ++ List.replicate k 0) → (∀ j, j < 8 → h1.EJ 1971 (D + 2) j = em (IV j)) → V X K 86 [.ref D, .int (nI bs.length), nov] [] h1 := by
    intro m
    induction m with
    | zero =>
      intro k h1 hk f1 g1 g2
      have t1 := g1.1.1.1
      have z1 := g1.2.1
      have el : (bs ++ [i8 (nI 128)] ++ List.replicate k 0).length = bs.length + 1 + k := by simp; omega
      rw [el] at z1
      have : (bs.length + 1 + k) % 64 = 56 := by unfold zc at hk; omega
      refine k_X27_end_86 o (fun c => ?_) (fun c => ?_)
      rotate_left
      · rw [nI_mod (by omega) (by omega) (by omega), this] at c; exact absurd rfl c
      refine k_X27_end_106 o ?_
      have e8 : (8 : Int64) * (nI bs.length).toInt64 = 8 * lN bs.length := by rw [nI_l (by omega)]
      rw [e8]
      refine taddN_ok g1 (by omega) (by rw [el]; omega) (by omega) fun h2 f2 p2 => ?_
      have ep : bs ++ [i8 (nI 128)] ++ List.replicate k 0 ++ nb (8 * lN bs.length) 8 = pad bs := by unfold pad; rw [show k = zc bs.length by omega]
      rw [ep] at p2
      refine k_X27_end_118 o ?_
      exact loop2 _ 0 h2 rfl (f1.trans (f2.mono (FS.mono rfl))) p2 fun j hj => by rw [f2.1.EJ (FS.n rfl)]; exact g2 j hj
    | succ m ih =>
      intro k h1 hk f1 g1 g2
      have t1 := g1.1.1.1
      have z1 := g1.2.1
      have el : (bs ++ [i8 (nI 128)] ++ List.replicate k 0).length = bs.length + 1 + k := by simp; omega
      rw [el] at z1
      have : (bs.length + 1 + k) % 64 ≠ 56 := by unfold zc at hk; omega
      refine k_X27_end_86 o (fun c => ?_) (fun c => ?_)
      · rw [nI_mod (by omega) (by omega) (by omega)] at c; exact absurd ((nI_eq (by omega) (by omega)).mp c) this
      refine k_X27_end_98 o ?_
      refine tadd_ok g1 (by rw [el]; omega) fun h2 f2 p2 => ?_
      refine k_X27_end_103 o ?_
      refine ih (k + 1) h2 (by omega) (f1.trans (f2.mono (FS.mono rfl))) ?_ fun j hj => by rw [f2.1.EJ (FS.n rfl)]; exact g2 j hj
      have : bs ++ [i8 (nI 128)] ++ List.replicate (k + 1) 0 = bs ++ [i8 (nI 128)] ++ List.replicate k 0 ++ [i8 (nI 0)] := by
        rw [List.replicate_succ', ← List.append_assoc]; rfl
      rw [this]; exact p2
  refine k_X27_end_0 o ?_
  refine k_X27_end_45 o ?_
  generalize hh : ((((((((h.sEJ 1971 (D + 2) 0 1779033703).sEJ 1971 (D + 2) 1 3144134277).sEJ 1971 (D + 2) 2 1013904242).sEJ 1971 (D + 2) 3 2773480762).sEJ 1971 (D + 2) 4 1359893119).sEJ 1971 (D + 2) 5 2600822924).sEJ 1971 (D + 2) 6 528734635).sEJ 1971 (D + 2) 7 1541459225) = h1
  have f1 : Fq (FS [10000 + 1971]) h h1 := by rw [← hh]; exact (by refine (Fq.sEJ (Fq.sEJ (Fq.sEJ (Fq.sEJ (Fq.sEJ (Fq.sEJ (Fq.sEJ (Fq.sEJ (Fq.refl h) ?_) ?_) ?_) ?_) ?_) ?_) ?_) ?_) <;> exact rfl)
  have g1 : MG h1 D bs := ⟨s1.fs f1.1 rfl, by rw [f1.1.I (FS.n rfl)]; exact s2, fun j hj => by rw [f1.1.EI (FS.n rfl)]; exact s3 j hj⟩
  have g2 : ∀ j, j < 8 → h1.EJ 1971 (D + 2) j = em (IV j) := fun j hj => by
    rw [← hh]
    have : j = 0 ∨ j = 1 ∨ j = 2 ∨ j = 3 ∨ j = 4 ∨ j = 5 ∨ j = 6 ∨ j = 7 := by omega
    rcases this with q | q | q | q | q | q | q | q <;> subst q <;> simp [EJ_sEJ] <;> rfl
  refine tadd_ok g1 (by omega) fun h2 f2 p2 => ?_
  exact loop1 _ 0 h2 rfl ((f1.mono (FS.mono rfl)).trans (f2.mono (FS.mono rfl))) (by simpa using p2) fun j hj => by rw [f2.1.EJ (FS.n rfl)]; exact g2 j hj
theorem tfour_ok {G : Gt} {d : Nat} {h : AH} {K : Outcome → AH → Prop} {D i : Nat} {bs : List Int32} (hs : SMd h D) (hw : ∀ j, j < 8 → h.EJ 1971 (D + 2) j = em (dig bs j)) (hi : i < 4) (kk : K (.returned (some (.long (digq bs i)))) h) : MW G d e_X27_four [.ref D, .int (nI i)] h K := by
  refine st_X27_four fun X o hG hD hf => ?_
  obtain ⟨⟨e1, e2, e3, e4⟩, e6, e7, e8⟩ := id hs
  have i0 : IX (nI 2 * nI i) 8 (2 * i) := by rw [nI_mul]; exact IX.mk (by omega) (by omega)
  have i1 : IX (nI 2 * nI i + nI 1) 8 (2 * i + 1) := by rw [nI_mul, nI_add]; exact IX.mk (by omega) (by omega)
  have x0 := hw (2 * i) (by omega)
  have x1 := hw (2 * i + 1) (by omega)
  refine k_X27_four_0 o ?_
  rw [em_digq]; exact kk
/-- byte i of the digest -/
def dby (bs : List Int32) (i : Nat) : Nat := um (dig bs (i / 4)) / 2 ^ (24 - 8 * (i % 4)) % 256
theorem tbyte_ok {G : Gt} {d : Nat} {h : AH} {K : Outcome → AH → Prop} {D i : Nat} {bs : List Int32} (hs : SMd h D) (hw : ∀ j, j < 8 → h.EJ 1971 (D + 2) j = em (dig bs j)) (hi : i < 32) (kk : K (.returned (some (.int (nI (dby bs i))))) h) : MW G d e_X27_byteOf [.ref D, .int (nI i)] h K := by
  refine st_X27_byteOf fun X o hG hD hf => ?_
  obtain ⟨⟨e1, e2, e3, e4⟩, e6, e7, e8⟩ := id hs
  have ed : nI i / nI 4 = nI (i / 4) := nI_div (by omega) (by omega) (by omega)
  have i0 : IX (nI i / nI 4) 8 (i / 4) := by rw [ed]; exact IX.mk (by omega) (by omega)
  have x0 := hw (i / 4) (by omega)
  have := um_lt (dig bs (i / 4))
  refine k_X27_byteOf_0 o ?_
  rw [nI_mod (by omega) (by omega) (by omega), nI_mul, nI_sub (by omega)]
  have e : ((em (dig bs (i / 4)) >>> ((nI (24 - 8 * (i % 4))).toInt64 &&& 63)) &&& (255 : Int64)).toInt32 = nI (dby bs i) := uI (by
    rw [um_32, un_fld (m := 8) _ (by omega) (by omega) rfl, un_em]
    unfold dby
    exact Nat.mod_eq_of_lt (by omega))
  rw [e]; exact kk
theorem dby_c (bs : List Int32) {k : Nat} (hk : k < 32) : un ((digq bs (k / 8) >>> ((nI (56 - 8 * (k % 8))).toInt64 &&& 63)) &&& (255 : Int64)) = dby bs k := by
  rw [un_fld (m := 8) _ (by omega) (by omega) rfl, un_digq]
  unfold dby
  have h1 := um_lt (dig bs (2 * (k / 8)))
  have h2 := um_lt (dig bs (2 * (k / 8) + 1))
  have : k % 8 < 8 := Nat.mod_lt _ (by omega)
  by_cases c : k % 8 < 4
  · rw [show k / 4 = 2 * (k / 8) by omega, show k % 4 = k % 8 by omega]
    have : k % 8 = 0 ∨ k % 8 = 1 ∨ k % 8 = 2 ∨ k % 8 = 3 := by omega
    rcases this with q | q | q | q <;> rw [q] <;> simp <;> omega
  · rw [show k / 4 = 2 * (k / 8) + 1 by omega, show k % 4 = k % 8 - 4 by omega]
    have : k % 8 = 4 ∨ k % 8 = 5 ∨ k % 8 = 6 ∨ k % 8 = 7 := by omega
    rcases this with q | q | q | q <;> rw [q] <;> simp <;> omega
