/-! digests: as the component reckons, in 32 bits -/
def i8 (x : Int32) : Int32 := x.toInt8.toInt32
theorem i8_i8 (x : Int32) : i8 (i8 x) = i8 x := by unfold i8; rw [Int8.toInt8_toInt32]
def sr (x : Int32) (n : Nat) : Int32 := (x.toUInt32 >>> ((nI n).toUInt32 &&& Int32.toUInt32 31)).toInt32
def rr (x : Int32) (n : Nat) : Int32 := sr x n ||| (x <<< ((-(nI n)) &&& 31))
def sg0 (x : Int32) : Int32 := (rr x 7 ^^^ rr x 18) ^^^ sr x 3
def sg1 (x : Int32) : Int32 := (rr x 17 ^^^ rr x 19) ^^^ sr x 10
def wd4 (b : Nat → Int32) (t : Nat) : Int32 := ((((b (4 * t) &&& nI 255) <<< (nI 24 &&& 31)) ||| ((b (4 * t + 1) &&& nI 255) <<< (nI 16 &&& 31))) ||| ((b (4 * t + 2) &&& nI 255) <<< (nI 8 &&& 31))) ||| (b (4 * t + 3) &&& nI 255)
def sch (b : Nat → Int32) (t : Nat) : Int32 := if t < 16 then wd4 b t else ((sch b (t - 16) + sg0 (sch b (t - 15))) + sch b (t - 7)) + sg1 (sch b (t - 2))
termination_by t
decreasing_by all_goals omega
theorem sch_lt {b : Nat → Int32} {t : Nat} (h : t < 16) : sch b t = wd4 b t := by rw [sch, if_pos h]
theorem sch_ge {b : Nat → Int32} {t : Nat} (h : 16 ≤ t) : sch b t = ((sch b (t - 16) + sg0 (sch b (t - 15))) + sch b (t - 7)) + sg1 (sch b (t - 2)) := by rw [sch, if_neg (by omega)]
theorem sch_congr {b b' : Nat → Int32} (h : ∀ j, j < 64 → b j = b' j) : ∀ t, t < 64 → sch b t = sch b' t := by
  intro t
  induction t using Nat.strongRecOn with
  | ind t ih =>
    intro ht
    by_cases c : t < 16
    · rw [sch_lt c, sch_lt c]; unfold wd4; rw [h _ (by omega), h _ (by omega), h _ (by omega), h _ (by omega)]
    · rw [sch_ge (b := b) (t := t) (by omega), sch_ge (b := b') (t := t) (by omega), ih (t - 16) (by omega) (by omega), ih (t - 15) (by omega) (by omega), ih (t - 7) (by omega) (by omega), ih (t - 2) (by omega) (by omega)]
def rcl : List Int32 := [1116352408, 1899447441, -1245643825, -373957723, 961987163, 1508970993, -1841331548, -1424204075, -670586216, 310598401, 607225278, 1426881987, 1925078388, -2132889090, -1680079193, -1046744716, -459576895, -272742522, 264347078, 604807628, 770255983, 1249150122, 1555081692, 1996064986, -1740746414, -1473132947, -1341970488, -1084653625, -958395405, -710438585, 113926993, 338241895, 666307205, 773529912, 1294757372, 1396182291, 1695183700, 1986661051, -2117940946, -1838011259, -1564481375, -1474664885, -1035236496, -949202525, -778901479, -694614492, -200395387, 275423344, 430227734, 506948616, 659060556, 883997877, 958139571, 1322822218, 1537002063, 1747873779, 1955562222, 2024104815, -2067236844, -1933114872, -1866530822, -1538233109, -1090935817, -965641998]
def RC (t : Nat) : Int32 := rcl.getD t 0
def rX (k w : Int32) (v : Nat → Int32) : Int32 := (((v 7 + ((rr (v 4) 6 ^^^ rr (v 4) 11) ^^^ rr (v 4) 25)) + ((v 4 &&& v 5) ^^^ ((v 4 ^^^ (-1)) &&& v 6))) + k) + w
def rY (v : Nat → Int32) : Int32 := ((rr (v 0) 2 ^^^ rr (v 0) 13) ^^^ rr (v 0) 22) + (((v 0 &&& v 1) ^^^ (v 0 &&& v 2)) ^^^ (v 1 &&& v 2))
def rnd (k w : Int32) (v : Nat → Int32) (j : Nat) : Int32 := if j = 0 then rX k w v + rY v else if j = 4 then v 3 + rX k w v else v (j - 1)
def rnds (b v : Nat → Int32) : Nat → Nat → Int32
  | 0 => v
  | t + 1 => rnd (RC t) (sch b t) (rnds b v t)
def cmp (b v : Nat → Int32) (j : Nat) : Int32 := v j + rnds b v 64 j
theorem rnd_congr {k w : Int32} {v v' : Nat → Int32} (h : ∀ j, j < 8 → v j = v' j) : ∀ j, j < 8 → rnd k w v j = rnd k w v' j := by
  have ex : rX k w v = rX k w v' := by unfold rX; rw [h 7 (by omega), h 4 (by omega), h 5 (by omega), h 6 (by omega)]
  have ey : rY v = rY v' := by unfold rY; rw [h 0 (by omega), h 1 (by omega), h 2 (by omega)]
  intro j hj
  unfold rnd
  rw [ex, ey, h 3 (by omega), h (j - 1) (by omega)]
theorem rnds_congr {b b' v v' : Nat → Int32} (hb : ∀ j, j < 64 → b j = b' j) (h : ∀ j, j < 8 → v j = v' j) : ∀ t, t ≤ 64 → ∀ j, j < 8 → rnds b v t j = rnds b' v' t j
  | 0, _ => h
  | t + 1, ht => by
    unfold rnds
    rw [sch_congr hb t (by omega)]
    exact rnd_congr (rnds_congr hb h t (by omega))
theorem cmp_congr {b b' v v' : Nat → Int32} (hb : ∀ j, j < 64 → b j = b' j) (h : ∀ j, j < 8 → v j = v' j) {j : Nat} (hj : j < 8) : cmp b v j = cmp b' v' j := by
  unfold cmp; rw [h j hj, rnds_congr hb h 64 (by omega) j hj]
def ivl : List Int32 := [1779033703, -1150833019, 1013904242, -1521486534, 1359893119, -1694144372, 528734635, 1541459225]
def IV (j : Nat) : Int32 := ivl.getD j 0
def blk (bs : List Int32) (n j : Nat) : Int32 := bs.getD (64 * n + j) 0
def stt (bs : List Int32) : Nat → Nat → Int32
  | 0 => IV
  | n + 1 => cmp (blk bs n) (stt bs n)
theorem stt_congr {bs bs' : List Int32} : ∀ {n : Nat}, (∀ i, i < 64 * n → bs.getD i 0 = bs'.getD i 0) → ∀ j, j < 8 → stt bs n j = stt bs' n j
  | 0, _ => fun _ _ => rfl
  | n + 1, h => fun j hj => cmp_congr (fun i hi => h _ (by omega)) (stt_congr fun i hi => h i (by omega)) hj
theorem getD_app {bs cs : List Int32} {i : Nat} (h : i < bs.length) : (bs ++ cs).getD i 0 = bs.getD i 0 := by
  rw [List.getD_eq_getElem?_getD, List.getD_eq_getElem?_getD, List.getElem?_append_left h]
theorem getD_last {bs : List Int32} {x : Int32} : (bs ++ [x]).getD bs.length 0 = x := by
  rw [List.getD_eq_getElem?_getD, List.getElem?_append_right (Nat.le_refl _)]; simp
/-- a number's bytes, the highest first -/
def nb (v : Int64) : Nat → List Int32
  | 0 => []
  | n + 1 => i8 ((v >>> ((nI (8 * n)).toInt64 &&& 63)).toInt32) :: nb v n
theorem nb_len (v : Int64) : ∀ n, (nb v n).length = n
  | 0 => rfl
  | n + 1 => by simp [nb, nb_len v n]
def zc (n : Nat) : Nat := (119 - n % 64) % 64
def pad (bs : List Int32) : List Int32 := bs ++ [i8 (nI 128)] ++ List.replicate (zc bs.length) 0 ++ nb (8 * lN bs.length) 8
theorem pad_len (bs : List Int32) : (pad bs).length = bs.length + 1 + zc bs.length + 8 := by simp [pad, nb_len]; omega
theorem pad_mod (bs : List Int32) : (pad bs).length % 64 = 0 := by rw [pad_len]; unfold zc; omega
/-- the digest's words -/
def dig (bs : List Int32) (j : Nat) : Int32 := stt (pad bs) ((pad bs).length / 64) j
def digq (bs : List Int32) (i : Nat) : Int64 := ((dig bs (2 * i)).toInt64 <<< ((nI 32).toInt64 &&& 63)) ||| ((dig bs (2 * i + 1)).toInt64 &&& 4294967295)
/-! the component's digest in the heap -/
def dgF : List Nat := [10000 + 545, 10000 + 560, 10000 + 576, 10000 + 592, 1924, 1925]
def SDg (h : AH) (D : Nat) : Prop := (h.tag D = some (15, 0) ∧ h.R 1920 D = some (D + 1) ∧ h.R 1921 D = some (D + 2) ∧ h.R 1922 D = some (D + 3) ∧ h.R 1923 D = some (D + 4)) ∧ h.tag (D + 1) = some (545, 64) ∧ h.tag (D + 2) = some (560, 64) ∧ h.tag (D + 3) = some (576, 8) ∧ h.tag (D + 4) = some (592, 8)
theorem SDg.fr {P : Nat → Nat → Prop} {h h' : AH} {D : Nat} (q : Fr P h h') (np : ∀ f, f = 1920 ∨ f = 1921 ∨ f = 1922 ∨ f = 1923 → ¬ P f D) (s : SDg h D) : SDg h' D := by
  obtain ⟨⟨e1, e2, e3, e4, e5⟩, e6, e7, e8, e9⟩ := s
  exact ⟨⟨q.tag e1, by rw [q.R (np _ (by omega))]; exact e2, by rw [q.R (np _ (by omega))]; exact e3, by rw [q.R (np _ (by omega))]; exact e4, by rw [q.R (np _ (by omega))]; exact e5⟩, q.tag e6, q.tag e7, q.tag e8, q.tag e9⟩
theorem SDg.fs {l : List Nat} {h h' : AH} {D : Nat} (q : Fr (FS l) h h') (np : [1920, 1921, 1922, 1923].all (fun f => !l.contains f) = true) (s : SDg h D) : SDg h' D := by
  refine s.fr q fun f hf => FS.n ?_
  rw [List.all_eq_true] at np
  have := np f (by simp only [List.mem_cons, List.not_mem_nil, or_false]; exact hf)
  simpa using this
/-- the constants of the rounds -/
def CR (G : Gt) (h : AH) : Prop := h.tag (G.ad 13) = some (4096, 64) ∧ ∀ t, t < 64 → h.EI 4096 (G.ad 13) t = RC t
theorem CR.fr {G : Gt} {P : Nat → Nat → Prop} {h h' : AH} (q : Fr P h h') (np : ¬ P 14096 (G.ad 13)) (s : CR G h) : CR G h' := ⟨q.tag s.1, fun t ht => by rw [q.EI np]; exact s.2 t ht⟩
theorem expand_ok {G : Gt} {d : Nat} {h : AH} {K : Outcome → AH → Prop} {D : Nat} (hs : SDg h D) (hd : 1 ≤ d) (kk : ∀ h', Fq (FS [10000 + 560]) h h' → (∀ t, t < 64 → h'.EI 560 (D + 2) t = sch (h.EI 545 (D + 1)) t) → K (.returned none) h') : MW G d e_X16_expand [.ref D] h K := by
  refine st_X16_expand fun X o hG hD hf => ?_
  subst hG; subst hD
  have loop2 : ∀ m t v2 v3 h1, m + t = 64 → 16 ≤ t → Fq (FS [10000 + 560]) h h1 → (∀ j, j < t → h1.EI 560 (D + 2) j = sch (h.EI 545 (D + 1)) j) → V X K 89 [.ref D, .int (nI t), v2, v3] [] h1 := by
    intro m
    induction m with
    | zero =>
      intro t v2 v3 h1 ht h16 f1 g1
      have : t = 64 := by omega
      subst this
      refine k_X16_expand_89 o (fun c => ?_) (fun c => ?_)
      · refine k_X16_expand_182 o ?_
        refine (kk h1 f1 g1)
      · exact absurd (by decide) c
    | succ m ih =>
      intro t v2 v3 h1 ht h16 f1 g1
      obtain ⟨⟨e1, e2, e3, e4, e5⟩, e6, e7, e8, e9⟩ := hs.fs f1.1 rfl
      have i1 : IX (nI t - nI 15) 64 (t - 15) := by rw [nI_sub (by omega)]; exact IX.mk (by omega) (by omega)
      have i2 : IX (nI t - nI 2) 64 (t - 2) := by rw [nI_sub (by omega)]; exact IX.mk (by omega) (by omega)
      have i3 : IX (nI t - nI 16) 64 (t - 16) := by rw [nI_sub (by omega)]; exact IX.mk (by omega) (by omega)
      have i4 : IX (nI t - nI 7) 64 (t - 7) := by rw [nI_sub (by omega)]; exact IX.mk (by omega) (by omega)
      have i5 : IX (nI t) 64 t := IX.mk (by omega) (by omega)
      have x1 := g1 (t - 15) (by omega)
      have x2 := g1 (t - 2) (by omega)
      have x3 := g1 (t - 16) (by omega)
      have x4 := g1 (t - 7) (by omega)
      refine k_X16_expand_89 o (fun c => ?_) (fun c => ?_)
      · exact absurd ((nI_leI (by omega) (by omega)).mp c) (by omega)
      refine k_X16_expand_95 o ?_
      refine rotateRight_ok ?_
      refine k_X16_expand_134 o ?_
      refine rotateRight_ok ?_
      refine k_X16_expand_140 o ?_
      refine rotateRight_ok ?_
      refine k_X16_expand_162 o ?_
      refine rotateRight_ok ?_
      refine k_X16_expand_168 o ?_
      rw [nI_add]
      refine ih (t + 1) _ _ _ (by omega) (by omega) (f1.sEI rfl) fun j hj => ?_
      rw [EI_sEI]
      split
      · next q => rw [q.2.2, sch_ge h16]; rfl
      · next q => exact g1 j (by have : j ≠ t := fun z => q ⟨rfl, rfl, z⟩; omega)
  have loop1 : ∀ m t h1, m + t = 16 → Fq (FS [10000 + 560]) h h1 → (∀ j, j < t → h1.EI 560 (D + 2) j = sch (h.EI 545 (D + 1)) j) → V X K 2 [.ref D, .int (nI t), nov, nov] [] h1 := by
    intro m
    induction m with
    | zero =>
      intro t h1 ht f1 g1
      have : t = 16 := by omega
      subst this
      refine k_X16_expand_2 o (fun c => ?_) (fun c => ?_)
      · refine k_X16_expand_86 o ?_
        exact loop2 48 16 _ _ h1 rfl (by omega) f1 g1
      · exact absurd (by decide) c
    | succ m ih =>
      intro t h1 ht f1 g1
      obtain ⟨⟨e1, e2, e3, e4, e5⟩, e6, e7, e8, e9⟩ := hs.fs f1.1 rfl
      have i0 : IX (nI 4 * nI t) 64 (4 * t) := by rw [nI_mul]; exact IX.mk (by omega) (by omega)
      have i1 : IX (nI 4 * nI t + nI 1) 64 (4 * t + 1) := by rw [nI_mul, nI_add]; exact IX.mk (by omega) (by omega)
      have i2 : IX (nI 4 * nI t + nI 2) 64 (4 * t + 2) := by rw [nI_mul, nI_add]; exact IX.mk (by omega) (by omega)
      have i3 : IX (nI 4 * nI t + nI 3) 64 (4 * t + 3) := by rw [nI_mul, nI_add]; exact IX.mk (by omega) (by omega)
      have i5 : IX (nI t) 64 t := IX.mk (by omega) (by omega)
      refine k_X16_expand_2 o (fun c => ?_) (fun c => ?_)
      · exact absurd ((nI_leI (by omega) (by omega)).mp c) (by omega)
      refine k_X16_expand_8 o ?_
      rw [nI_add]
      refine ih (t + 1) _ (by omega) (f1.sEI rfl) fun j hj => ?_
      rw [EI_sEI]
      split
      · next q =>
        rw [q.2.2, sch_lt (by omega)]
        unfold wd4
        rw [f1.1.EI (FS.n rfl), f1.1.EI (FS.n rfl), f1.1.EI (FS.n rfl), f1.1.EI (FS.n rfl)]
      · next q => exact g1 j (by have : j ≠ t := fun z => q ⟨rfl, rfl, z⟩; omega)
  refine k_X16_expand_0 o ?_
  exact loop1 16 0 h rfl (Fq.refl h) fun j hj => by omega
theorem round_ok {G : Gt} {d : Nat} {h : AH} {K : Outcome → AH → Prop} {D t : Nat} (hs : SDg h D) (hc : CR G h) (ht : t < 64) (hd : 1 ≤ d) (kk : ∀ h', Fq (FS [10000 + 592]) h h' → (∀ j, j < 8 → h'.EI 592 (D + 4) j = rnd (RC t) (h.EI 560 (D + 2) t) (h.EI 592 (D + 4)) j) → K (.returned none) h') : MW G d e_X16_round [.ref D, .int (nI t)] h K := by
  refine st_X16_round fun X o hG hD hf => ?_
  subst hG; subst hD
  obtain ⟨⟨e1, e2, e3, e4, e5⟩, e6, e7, e8, e9⟩ := id hs
  obtain ⟨c1, c2⟩ := hc
  have c3 := c2 t ht
  have it : IX (nI t) 64 t := IX.mk ht (by omega)
  generalize hv : h.EI 592 (D + 4) = v at *
  have v0 : h.EI 592 (D + 4) 0 = v 0 := by rw [hv]
  have v1 : h.EI 592 (D + 4) 1 = v 1 := by rw [hv]
  have v2 : h.EI 592 (D + 4) 2 = v 2 := by rw [hv]
  have v4 : h.EI 592 (D + 4) 4 = v 4 := by rw [hv]
  have v5 : h.EI 592 (D + 4) 5 = v 5 := by rw [hv]
  have v6 : h.EI 592 (D + 4) 6 = v 6 := by rw [hv]
  have v7 : h.EI 592 (D + 4) 7 = v 7 := by rw [hv]
  have x0 : ∀ k, k < 8 → IX (nI k) 8 k := fun k hk => IX.mk hk (by omega)
  have y0 := x0 0 (by omega)
  have y1 := x0 1 (by omega)
  have y2 := x0 2 (by omega)
  have y4 := x0 4 (by omega)
  have y5 := x0 5 (by omega)
  have y6 := x0 6 (by omega)
  have y7 := x0 7 (by omega)
  have loop : ∀ k h1, k ≤ 7 → Fq (FS [10000 + 592]) h h1 → (∀ j, j < 8 → h1.EI 592 (D + 4) j = if k < j then v (j - 1) else v j) → V X K 135 [.ref D, .int (nI t), .int (v 0), .int (v 4), .int (rX (RC t) (h.EI 560 (D + 2) t) v), .int (rY v), .int (nI k)] [] h1 := by
    intro k
    induction k with
    | zero =>
      intro h1 hk f1 g1
      obtain ⟨⟨e1, e2, e3, e4, e5⟩, e6, e7, e8, e9⟩ := hs.fs f1.1 rfl
      have z4 : h1.EI 592 (D + 4) 4 = v 3 := g1 4 (by omega)
      refine k_X16_round_135 o (fun c => ?_) (fun c => ?_)
      rotate_left
      · exact absurd (by decide) c
      refine k_X16_round_162 o ?_
      refine (kk _ ((by refine (Fq.sEI (Fq.sEI (f1) ?_) ?_) <;> exact rfl)) fun j hj => ?_)
      simp only [EI_sEI, and_true, true_and]
      unfold rnd
      split
      · rfl
      · split
        · rfl
        · rw [g1 j hj, if_pos (by omega)]
    | succ k ih =>
      intro h1 hk f1 g1
      obtain ⟨⟨e1, e2, e3, e4, e5⟩, e6, e7, e8, e9⟩ := hs.fs f1.1 rfl
      have i1 : IX (nI (k + 1) - nI 1) 8 k := by rw [nI_sub (by omega)]; exact IX.mk (by omega) (by omega)
      have i2 : IX (nI (k + 1)) 8 (k + 1) := IX.mk (by omega) (by omega)
      have en : nI (k + 1) + (-1) = nI k := by rw [← nI_add]; show nI k + 1 + -1 = nI k; rw [Int32.add_assoc]; show nI k + 0 = nI k; rw [Int32.add_zero]
      have zk : h1.EI 592 (D + 4) k = v k := by rw [g1 k (by omega), if_neg (by omega)]
      refine k_X16_round_135 o (fun c => ?_) (fun c => ?_)
      · exact absurd ((nI_leI (b := 0) (by omega) (by omega)).mp c) (by omega)
      refine k_X16_round_140 o ?_
      rw [en]
      refine ih _ (by omega) (f1.sEI rfl) fun j hj => ?_
      rw [EI_sEI]
      split
      · next q => rw [q.2.2, if_pos (by omega)]; rfl
      · next q =>
        have : j ≠ k + 1 := fun z => q ⟨rfl, rfl, z⟩
        rw [g1 j hj]
        by_cases q : k + 1 < j
        · rw [if_pos q, if_pos (by omega)]
        · rw [if_neg q, if_neg (by omega)]
  refine k_X16_round_0 o ?_
  refine rotateRight_ok ?_
  refine k_X16_round_27 o ?_
  refine rotateRight_ok ?_
  refine k_X16_round_33 o ?_
  refine rotateRight_ok ?_
  refine k_X16_round_40 o ?_
  refine rotateRight_ok ?_
  refine k_X16_round_83 o ?_
  refine rotateRight_ok ?_
  refine k_X16_round_89 o ?_
  refine rotateRight_ok ?_
  refine k_X16_round_96 o ?_
  exact loop 7 h (by omega) (Fq.refl h) fun j hj => by rw [hv, if_neg (by omega)]
theorem compress_ok {G : Gt} {d : Nat} {h : AH} {K : Outcome → AH → Prop} {D : Nat} (hs : SDg h D) (hc : CR G h) (hd : 2 ≤ d) (kk : ∀ h', Fq (FS [10000 + 560, 10000 + 592, 10000 + 576, 1924]) h h' → (∀ j, j < 8 → h'.EI 576 (D + 3) j = cmp (h.EI 545 (D + 1)) (h.EI 576 (D + 3)) j) → h'.I 1924 D = nI 0 → K (.returned none) h') : MW G d e_X16_compress [.ref D] h K := by
  refine st_X16_compress fun X o hG hD hf => ?_
  subst hG; subst hD
  have t0 := hs.1.1
  generalize hb : h.EI 545 (D + 1) = b at *
  generalize hv : h.EI 576 (D + 3) = v at *
  have loop3 : ∀ m k h1, m + k = 8 → Fq (FS [10000 + 560, 10000 + 592, 10000 + 576, 1924]) h h1 → (∀ j, j < 8 → h1.EI 592 (D + 4) j = rnds b v 64 j) → (∀ j, j < 8 → h1.EI 576 (D + 3) j = if j < k then cmp b v j else v j) → V X K 51 [.ref D, .int (nI k)] [] h1 := by
    intro m
    induction m with
    | zero =>
      intro k h1 hk f1 g1 g2
      have : k = 8 := by omega
      subst this
      have t1 := f1.1.tag t0
      refine k_X16_compress_51 o (fun c => ?_) (fun c => ?_)
      rotate_left
      · exact absurd (by decide) c
      refine k_X16_compress_78 o ?_
      refine (kk _ (f1.sI rfl) (fun j hj => ?_) (by simp [n_sI, z_sI, tag_sI, I_sI, J_sI, R_sI, EI_sI, EJ_sI, ER_sI, n_sJ, z_sJ, tag_sJ, I_sJ, J_sJ, R_sJ, EI_sJ, EJ_sJ, ER_sJ, n_sR, z_sR, tag_sR, I_sR, J_sR, R_sR, EI_sR, EJ_sR, ER_sR, n_sEI, z_sEI, tag_sEI, I_sEI, J_sEI, R_sEI, EI_sEI, EJ_sEI, ER_sEI, n_sEJ, z_sEJ, tag_sEJ, I_sEJ, J_sEJ, R_sEJ, EI_sEJ, EJ_sEJ, ER_sEJ, n_sER, z_sER, tag_sER, I_sER, J_sER, R_sER, EI_sER, EJ_sER, ER_sER, n_nw, z_nw, tag_nw, I_nw, J_nw, R_nw, EI_nw, EJ_nw, ER_nw]))
      rw [EI_sI, g2 j hj, if_pos hj]
    | succ m ih =>
      intro k h1 hk f1 g1 g2
      obtain ⟨⟨e1, e2, e3, e4, e5⟩, e6, e7, e8, e9⟩ := hs.fs f1.1 rfl
      have ix : IX (nI k) 8 k := IX.mk (by omega) (by omega)
      have x1 := g1 k (by omega)
      have x2 : h1.EI 576 (D + 3) k = v k := by rw [g2 k (by omega), if_neg (by omega)]
      refine k_X16_compress_51 o (fun c => ?_) (fun c => ?_)
      · exact absurd ((nI_leI (by omega) (by omega)).mp c) (by omega)
      refine k_X16_compress_57 o ?_
      rw [nI_add]
      refine ih (k + 1) _ (by omega) (f1.sEI rfl) (fun j hj => ?_) (fun j hj => ?_)
      · rw [EI_sEI, if_neg (by omega)]; exact g1 j hj
      · rw [EI_sEI]
        split
        · next q => rw [q.2.2, if_pos (by omega)]; rfl
        · next q =>
          have : j ≠ k := fun z => q ⟨rfl, rfl, z⟩
          rw [g2 j hj]
          by_cases q : j < k
          · rw [if_pos q, if_pos (by omega)]
          · rw [if_neg q, if_neg (by omega)]
  have loop2 : ∀ m t h1, m + t = 64 → Fq (FS [10000 + 560, 10000 + 592]) h h1 → (∀ j, j < 64 → h1.EI 560 (D + 2) j = sch b j) → (∀ j, j < 8 → h1.EI 592 (D + 4) j = rnds b v t j) → V X K 32 [.ref D, .int (nI t)] [] h1 := by
    intro m
    induction m with
    | zero =>
      intro t h1 ht f1 g1 g2
      have : t = 64 := by omega
      subst this
      refine k_X16_compress_32 o (fun c => ?_) (fun c => ?_)
      · refine k_X16_compress_49 o ?_
        exact loop3 8 0 h1 rfl (f1.mono (FS.mono rfl)) g2 fun j hj => by rw [f1.1.EI (FS.n rfl), hv, if_neg (by omega)]
      · exact absurd (by decide) c
    | succ m ih =>
      intro t h1 ht f1 g1 g2
      have s1 := hs.fs f1.1 rfl
      have t1 := s1.1.1
      refine k_X16_compress_32 o (fun c => ?_) (fun c => ?_)
      · exact absurd ((nI_leI (by omega) (by omega)).mp c) (by omega)
      refine k_X16_compress_38 o ?_
      refine round_ok s1 (hc.fr f1.1 (FS.n rfl)) (by omega) (by omega) fun h2 f2 p2 => ?_
      refine k_X16_compress_43 o ?_
      rw [nI_add]
      refine ih (t + 1) h2 (by omega) (f1.trans (f2.mono (FS.mono rfl))) (fun j hj => by rw [f2.1.EI (FS.n rfl)]; exact g1 j hj) fun j hj => ?_
      rw [p2 j hj, g1 t (by omega)]
      exact rnd_congr g2 j hj
  have loop1 : ∀ m k h1, m + k = 8 → Fq (FS [10000 + 560, 10000 + 592]) h h1 → (∀ j, j < 64 → h1.EI 560 (D + 2) j = sch b j) → (∀ j, j < k → h1.EI 592 (D + 4) j = v j) → V X K 6 [.ref D, .int (nI k)] [] h1 := by
    intro m
    induction m with
    | zero =>
      intro k h1 hk f1 g1 g2
      have : k = 8 := by omega
      subst this
      refine k_X16_compress_6 o (fun c => ?_) (fun c => ?_)
      · refine k_X16_compress_30 o ?_
        exact loop2 64 0 h1 rfl f1 g1 g2
      · exact absurd (by decide) c
    | succ m ih =>
      intro k h1 hk f1 g1 g2
      obtain ⟨⟨e1, e2, e3, e4, e5⟩, e6, e7, e8, e9⟩ := hs.fs f1.1 rfl
      have ix : IX (nI k) 8 k := IX.mk (by omega) (by omega)
      have x1 : h1.EI 576 (D + 3) k = v k := by rw [f1.1.EI (FS.n rfl), hv]
      refine k_X16_compress_6 o (fun c => ?_) (fun c => ?_)
      · exact absurd ((nI_leI (by omega) (by omega)).mp c) (by omega)
      refine k_X16_compress_12 o ?_
      rw [nI_add]
      refine ih (k + 1) _ (by omega) (f1.sEI rfl) (fun j hj => ?_) (fun j hj => ?_)
      · rw [EI_sEI, if_neg (by omega)]; exact g1 j hj
      · rw [EI_sEI]
        split
        · next q => rw [q.2.2]
        · next q => exact g2 j (by have : j ≠ k := fun z => q ⟨rfl, rfl, z⟩; omega)
  refine k_X16_compress_0 o ?_
  refine expand_ok hs (by omega) fun h1 f1 g1 => ?_
  rw [hb] at g1
  refine k_X16_compress_4 o ?_
  exact loop1 8 0 h1 rfl (f1.mono (FS.mono rfl)) g1 fun j hj => by omega
