/-! the ledger's face: values as bytes -/
def hdB (k : Nat) (x : Int64 × Int64) (n : Nat) : List Int32 := (if k = 4 then nb x.1 8 else []) ++ ((if k < 6 then nb x.2 (if k < 3 then 1 else 8) else []) ++ if k = 7 then nb (lN n) 2 else [])
def fwB : Fo → List Int32
  | .leaf => []
  | .inner k x _ c r => hdB k x (fln c) ++ (fwB c ++ fwB r)
def vwB (v : VL) : List Int32 := hdB v.1 v.2.1 (fln v.2.2) ++ fwB v.2.2
theorem hdB_len {k : Nat} {x : Int64 × Int64} {n : Nat} : (hdB k x n).length ≤ 16 ∧ (k = 6 → (hdB k x n).length = 0) := by
  unfold hdB
  by_cases k4 : k = 4
  · rw [if_pos k4, if_pos (by omega), if_neg (by omega), if_neg (by omega), List.length_append, List.length_append, nb_len, nb_len]
    exact ⟨by simp, fun e => by omega⟩
  · rw [if_neg k4]
    by_cases k6 : k < 6
    · rw [if_pos k6, if_neg (show ¬ k = 7 by omega), List.append_nil, List.nil_append, nb_len]
      exact ⟨by split <;> omega, fun e => by omega⟩
    · rw [if_neg k6, List.nil_append, List.nil_append]
      split
      · rw [nb_len]; exact ⟨by omega, fun e => by omega⟩
      · exact ⟨Nat.zero_le _, fun _ => rfl⟩
theorem fwB_len : ∀ c : Fo, (fwB c).length ≤ 16 * fsz c
  | .leaf => Nat.zero_le _
  | .inner k x _ c r => by
    have h1 := fwB_len c
    have h2 := fwB_len r
    have h3 := (hdB_len (k := k) (x := x) (n := fln c)).1
    show (hdB k x (fln c) ++ (fwB c ++ fwB r)).length ≤ 16 * (1 + fsz c + fsz r)
    rw [List.length_append, List.length_append]
    omega
/-- a row of all bytes written so far -/
def shF : List Nat := [22, 10000 + 129]
section
variable {G : Gt} {d : Nat} {h : AH} {K : Outcome → AH → Prop} {A SH : Nat} {sh : List Int32}
theorem show_ok {v : Int64} {m : Nat} (t0 : h.tag A = some (0, 0)) (s : SHW h A SH sh) (hm : m ≤ 8) (hl : sh.length + m ≤ 2048) (kk : ∀ h', Fq (FS shF) h h' → SHW h' A SH (sh ++ nb v m) → K (.returned none) h') : MW G d e_X1_show [.ref A, .long v, .int (nI m)] h K := by
  refine st_X1_show fun X o hG hD _ => ?_
  refine k_X1_show_0 o ?_
  obtain ⟨⟨w1, w2⟩, w3, w4, w5⟩ := s
  have loop : ∀ j h1, j ≤ m → Fq (FS shF) h h1 → h1.I 22 A = nI (sh.length + (m - j)) → (∀ i x, (sh ++ nb v m)[i]? = some x → i < sh.length + (m - j) → h1.EI 129 SH i = x) → V X K 5 [.ref A, .long v, nov, .int (nI m), .int (nI j - nI 1)] [] h1 := by
    intro j
    induction j with
    | zero =>
      intro h1 hj q q2 q3
      refine k_X1_show_5 o (fun _ => ?_) (fun z => absurd (by decide) z)
      refine k_X1_show_44 o ?_
      refine kk h1 q ⟨⟨by rw [q.1.R (FS.n rfl)]; exact w1, q.1.tag w2⟩, by rw [q2, List.length_append, nb_len]; rfl, by rw [List.length_append, nb_len]; exact hl, fun i x hx => q3 i x hx (by have := (List.getElem?_eq_some_iff.mp hx).1; rw [List.length_append, nb_len] at this; exact this)⟩
    | succ j ih =>
      intro h1 hj q q2 q3
      have t1 := q.1.tag t0
      have en : nI (j + 1) - nI 1 = nI j := nI_sub (a := j + 1) (b := 1) (by omega)
      rw [en]
      have rt : h1.R 21 A = some SH := by rw [q.1.R (FS.n rfl)]; exact w1
      have tt := q.1.tag w2
      refine k_X1_show_5 o (fun z => absurd z (nI_nn (by omega))) (fun _ => ?_)
      have ix : IX (nI (sh.length + (m - (j + 1)))) 2048 (sh.length + (m - (j + 1))) := IX.mk (by omega) (by omega)
      refine k_X1_show_10 (r4 := q2) (r10 := q2) o ?_
      have eb : (((v >>> ((nI 8 * nI j).toInt64 &&& 63)).toInt32).toInt8.toInt32).toInt8.toInt32 = i8 ((v >>> ((nI (8 * j)).toInt64 &&& 63)).toInt32) := by
        rw [nI_mul]; exact i8_i8 _
      rw [eb, nI_add]
      have ej : nI j + (-1) = nI j - nI 1 := by rw [Int32.sub_eq_add_neg]; rfl
      rw [ej]
      refine ih _ (by omega) (Fq.sI (Fq.sEI q (fsr rfl)) (fsr rfl)) ?_ (fun i x hx hi => ?_)
      · rw [show sh.length + (m - j) = sh.length + (m - (j + 1)) + 1 by omega]
        simp [n_sI, z_sI, tag_sI, I_sI, J_sI, R_sI, EI_sI, EJ_sI, ER_sI, n_sJ, z_sJ, tag_sJ, I_sJ, J_sJ, R_sJ, EI_sJ, EJ_sJ, ER_sJ, n_sR, z_sR, tag_sR, I_sR, J_sR, R_sR, EI_sR, EJ_sR, ER_sR, n_sEI, z_sEI, tag_sEI, I_sEI, J_sEI, R_sEI, EI_sEI, EJ_sEI, ER_sEI, n_sEJ, z_sEJ, tag_sEJ, I_sEJ, J_sEJ, R_sEJ, EI_sEJ, EJ_sEJ, ER_sEJ, n_sER, z_sER, tag_sER, I_sER, J_sER, R_sER, EI_sER, EJ_sER, ER_sER, n_nw, z_nw, tag_nw, I_nw, J_nw, R_nw, EI_nw, EJ_nw, ER_nw]
      · by_cases ei : i = sh.length + (m - (j + 1))
        · subst ei
          rw [List.getElem?_append_right (by omega), Nat.add_sub_cancel_left, nb_get m j hj] at hx
          rw [← Option.some.inj hx]
          simp [n_sI, z_sI, tag_sI, I_sI, J_sI, R_sI, EI_sI, EJ_sI, ER_sI, n_sJ, z_sJ, tag_sJ, I_sJ, J_sJ, R_sJ, EI_sJ, EJ_sJ, ER_sJ, n_sR, z_sR, tag_sR, I_sR, J_sR, R_sR, EI_sR, EJ_sR, ER_sR, n_sEI, z_sEI, tag_sEI, I_sEI, J_sEI, R_sEI, EI_sEI, EJ_sEI, ER_sEI, n_sEJ, z_sEJ, tag_sEJ, I_sEJ, J_sEJ, R_sEJ, EI_sEJ, EJ_sEJ, ER_sEJ, n_sER, z_sER, tag_sER, I_sER, J_sER, R_sER, EI_sER, EJ_sER, ER_sER, n_nw, z_nw, tag_nw, I_nw, J_nw, R_nw, EI_nw, EJ_nw, ER_nw]
        · have := q3 i x hx (by omega)
          simpa [n_sI, z_sI, tag_sI, I_sI, J_sI, R_sI, EI_sI, EJ_sI, ER_sI, n_sJ, z_sJ, tag_sJ, I_sJ, J_sJ, R_sJ, EI_sJ, EJ_sJ, ER_sJ, n_sR, z_sR, tag_sR, I_sR, J_sR, R_sR, EI_sR, EJ_sR, ER_sR, n_sEI, z_sEI, tag_sEI, I_sEI, J_sEI, R_sEI, EI_sEI, EJ_sEI, ER_sEI, n_sEJ, z_sEJ, tag_sEJ, I_sEJ, J_sEJ, R_sEJ, EI_sEJ, EJ_sEJ, ER_sEJ, n_sER, z_sER, tag_sER, I_sER, J_sER, R_sER, EI_sER, EJ_sER, ER_sER, n_nw, z_nw, tag_nw, I_nw, J_nw, R_nw, EI_nw, EJ_nw, ER_nw, ei] using this
  exact loop m h (Nat.le_refl _) (Fq.refl h) (by rw [Nat.sub_self]; exact w3) (fun i x hx hi => by
    rw [Nat.sub_self] at hi
    rw [List.getElem?_append_left hi] at hx
    exact w5 i x hx)
def WrLoop (g : LF) : Prop := ∀ (X : Xt) (_ : OK e_X1_write X) (K : Outcome → AH → Prop) (h : AH) (A SH : Nat) (sh : List Int32) (p : Option Nat) (v1 : Value), h.tag A = some (0, 0) → SHW h A SH sh → RF h g p → fbd (fer g) → fdp g + 1 ≤ X.d → sh.length + (fwB (fer g)).length ≤ 2048 → (∀ h', Fq (FS shF) h h' → SHW h' A SH (sh ++ fwB (fer g)) → K (.returned none) h') → V X K 73 [.ref A, v1, va_rf p] [] h
theorem write_of {c : LF} (L : WrLoop c) {a k : Nat} {x : Int64 × Int64} (t0 : h.tag A = some (0, 0)) (s : SHW h A SH sh) (hv : RV h a k x c) (hk : k < 16 ∧ fln c < 2147483648) (hb : fbd (fer c)) (hd : fdp c + 1 ≤ d) (hl : sh.length + (vwB (k, x, fer c)).length ≤ 2048) (kk : ∀ h', Fq (FS shF) h h' → SHW h' A SH (sh ++ vwB (k, x, fer c)) → K (.returned none) h') : MW G d e_X1_write [.ref A, .ref a] h K := by
  refine st_X1_write fun X o hG hD _ => ?_
  subst hG; subst hD
  have fl : fln (fer c) = fln c := fer_ln c
  unfold vwB hdB at hl kk
  rw [fl] at hl kk
  have hl2 : (sh ++ (((if k = 4 then nb x.1 8 else []) ++ ((if k < 6 then nb x.2 (if k < 3 then 1 else 8) else []) ++ if k = 7 then nb (lN (fln c)) 2 else [])) ++ fwB (fer c))).length ≤ 2048 := by rw [List.length_append]; exact hl
  generalize htot : sh ++ (((if k = 4 then nb x.1 8 else []) ++ ((if k < 6 then nb x.2 (if k < 3 then 1 else 8) else []) ++ if k = 7 then nb (lN (fln c)) 2 else [])) ++ fwB (fer c)) = tot at hl2 kk
  have nv : ∀ {h h1 : AH} {a : Nat}, Fq (FS shF) h h1 → RV h a k x c → RV h1 a k x c := fun q hv => RV.fr q.1 hv (fun f b _ f1 f2 z => by
    have : ∀ f ∈ shF, ¬ (3712 ≤ f ∧ f ≤ 3718) := by decide
    exact this f (List.contains_iff_mem.mp z) ⟨f1, f2⟩)
  have s68 : ∀ h1 s1, Fq (FS shF) h h1 → SHW h1 A SH s1 → s1 ++ fwB (fer c) = tot → V X K 68 [.ref A, .ref a, nov] [] h1 := fun h1 s1 q1 sw es => by
    obtain ⟨e2, e3, e4, e5, e6, e7⟩ := nv q1 hv
    refine k_X1_write_68 o ?_
    refine L X o K h1 A SH s1 _ _ (q1.1.tag t0) sw e7 hb (by omega) ?_ (fun h2 q2 sw2 => kk h2 (q1.trans q2) (by rw [← es]; exact sw2))
    have := congrArg List.length es
    rw [List.length_append] at this
    omega
  have s49 : ∀ h1 s1, Fq (FS shF) h h1 → SHW h1 A SH s1 → s1 ++ ((if k = 7 then nb (lN (fln c)) 2 else []) ++ fwB (fer c)) = tot → V X K 49 [.ref A, .ref a, nov] [] h1 := fun h1 s1 q1 sw es => by
    obtain ⟨e2, e3, e4, e5, e6, e7⟩ := nv q1 hv
    have t1 := q1.1.tag t0
    by_cases k7 : k = 7
    · rw [if_pos k7] at es
      refine k_X1_write_49 (r2 := e3) o (fun q => absurd (by rw [k7]) q) (fun _ => ?_)
      refine k_X1_write_58 (r2 := e6) o ?_
      rw [nI_64 (by omega)]
      have := congrArg List.length es
      rw [List.length_append, List.length_append, nb_len] at this
      refine show_ok t1 sw (by omega) (by omega) (fun h2 q2 sw2 => ?_)
      exact s68 h2 _ (q1.trans q2) sw2 (by rw [List.append_assoc]; exact es)
    · rw [if_neg k7] at es
      refine k_X1_write_49 (r2 := e3) o (fun _ => ?_) (fun q => absurd ((nI_eq (b := 7) (by omega) (by omega)).mp q) k7)
      refine s68 h1 s1 q1 sw ?_
      rw [List.nil_append] at es
      exact es
  have s18 : ∀ h1 s1, Fq (FS shF) h h1 → SHW h1 A SH s1 → s1 ++ ((if k < 6 then nb x.2 (if k < 3 then 1 else 8) else []) ++ ((if k = 7 then nb (lN (fln c)) 2 else []) ++ fwB (fer c))) = tot → V X K 18 [.ref A, .ref a, nov] [] h1 := fun h1 s1 q1 sw es => by
    obtain ⟨e2, e3, e4, e5, e6, e7⟩ := nv q1 hv
    have t1 := q1.1.tag t0
    by_cases k6 : k < 6
    · rw [if_pos k6] at es
      refine k_X1_write_18 (r2 := e3) o (fun q => absurd ((nI_leI (a := 6) (by omega) (by omega)).mp q) (by omega)) (fun _ => ?_)
      have go : ∀ m, m = (if k < 3 then 1 else 8) → V X K 46 [.ref A, .ref a, nov] [.int (nI m), .long x.2, .ref A] h1 := fun m hm => by
        refine k_X1_write_46 o ?_
        have m8 : m ≤ 8 := by rw [hm]; split <;> omega
        have := congrArg List.length es
        rw [← hm, List.length_append, List.length_append, nb_len] at this
        refine show_ok t1 sw m8 (by omega) (fun h2 q2 sw2 => ?_)
        refine s49 h2 _ (q1.trans q2) sw2 ?_
        rw [List.append_assoc]
        rw [← hm] at es
        exact es
      by_cases k3 : k < 3
      · refine k_X1_write_27 (r2 := e5) (r4 := e3) o (fun q => absurd ((nI_leI (a := 3) (by omega) (by omega)).mp q) (by omega)) (fun _ => ?_)
        refine k_X1_write_40 o ?_
        exact go 1 (by rw [if_pos k3])
      · refine k_X1_write_27 (r2 := e5) (r4 := e3) o (fun _ => ?_) (fun q => absurd ((nI_leI (a := 3) (b := k) (by omega) (by omega)).mpr (by omega)) q)
        refine k_X1_write_44 o ?_
        exact go 8 (by rw [if_neg k3])
    · rw [if_neg k6, List.nil_append] at es
      refine k_X1_write_18 (r2 := e3) o (fun _ => ?_) (fun q => absurd ((nI_leI (a := 6) (b := k) (by omega) (by omega)).mpr (by omega)) q)
      exact s49 h1 s1 q1 sw es
  obtain ⟨e2, e3, e4, e5, e6, e7⟩ := id hv
  by_cases k4 : k = 4
  · rw [if_pos k4] at htot
    refine k_X1_write_0 (r2 := e3) o (fun q => absurd (by rw [k4]) q) (fun _ => ?_)
    refine k_X1_write_8 (r2 := e4) o ?_
    have := congrArg List.length htot
    rw [List.length_append, List.length_append, List.length_append, nb_len] at this
    refine show_ok t0 s (by omega) (by omega) (fun h2 q2 sw2 => ?_)
    refine s18 h2 _ q2 sw2 ?_
    rw [← htot]
    simp only [List.append_assoc]
  · refine k_X1_write_0 (r2 := e3) o (fun _ => ?_) (fun q => absurd ((nI_eq (b := 4) (by omega) (by omega)).mp q) k4)
    refine s18 h sh (Fq.refl h) s ?_
    rw [← htot, if_neg k4]
    simp only [List.append_assoc, List.nil_append]
theorem write_loop : ∀ g : LF, WrLoop g
  | .leaf => by
    intro X o K h A SH sh p v1 t0 s hr hb hd hl kk
    cases hr
    refine k_X1_write_73 o (fun _ => ?_) (fun a c => nomatch c)
    refine k_X1_write_90 o ?_
    exact kk h (Fq.refl h) (by show SHW h A SH (sh ++ []); rw [List.append_nil]; exact s)
  | .inner k x uu c r => by
    intro X o K h A SH sh p v1 t0 s hr hb hd hl kk
    have hrr := hr
    obtain ⟨e1, e2, e3, e4, e5, e6, e7, e8⟩ := hr
    subst e1
    simp only [fdp] at hd
    obtain ⟨b1, b1', b2, b3⟩ := hb
    have fl : fln (fer c) = fln c := fer_ln c
    rw [fl] at b1'
    have ew : fwB (fer (.inner k x uu c r)) = vwB (k, x.2, fer c) ++ fwB (fer r) := by
      show hdB k x.2 (fln (fer c)) ++ (fwB (fer c) ++ fwB (fer r)) = (hdB k x.2 (fln (fer c)) ++ fwB (fer c)) ++ fwB (fer r)
      rw [List.append_assoc]
    rw [ew] at hl kk
    rw [List.length_append] at hl
    refine k_X1_write_73 o (fun c => nomatch c) (fun a c => ?_)
    cases c
    refine k_X1_write_77 o ?_
    refine write_of (c := c) (write_loop c) (k := k) (x := x.2) t0 s ⟨e2, e3, e4, e5, e6, e7⟩ ⟨b1, b1'⟩ b2 (by omega) (by omega) (fun h2 q2 s2 => ?_)
    have r2 : RF h2 (.inner k x uu c r) (some x.1) := RF.fr q2.1 hrr (fun f b _ f1 f2 z => by
      have : ∀ f ∈ shF, ¬ (3712 ≤ f ∧ f ≤ 3718) := by decide
      exact this f (List.contains_iff_mem.mp z) ⟨f1, f2⟩)
    obtain ⟨-, g2, -, -, -, -, -, g8⟩ := r2
    refine k_X1_write_82 o ?_
    refine write_loop r X o K h2 A SH _ _ _ (q2.1.tag t0) s2 g8 b3 (by omega) (by rw [List.length_append]; omega) (fun h3 q3 s3 => kk h3 (q2.trans q3) (by rw [← List.append_assoc]; exact s3))
theorem write_ok {c : LF} {a k : Nat} {x : Int64 × Int64} (t0 : h.tag A = some (0, 0)) (s : SHW h A SH sh) (hv : RV h a k x c) (hk : k < 16 ∧ fln c < 2147483648) (hb : fbd (fer c)) (hd : fdp c + 1 ≤ d) (hl : sh.length + (vwB (k, x, fer c)).length ≤ 2048) (kk : ∀ h', Fq (FS shF) h h' → SHW h' A SH (sh ++ vwB (k, x, fer c)) → K (.returned none) h') : MW G d e_X1_write [.ref A, .ref a] h K := write_of (write_loop c) t0 s hv hk hb hd hl kk
end
