/-! the twin's looker: from the beginning on -/
def LEh (h : AH) (O : Nat) (u : Ux) : Prop := ∀ i, i < (ui u).length → h.EI 1746 (O + 3) i = bI (leds u i)
def lbF : List Nat := [3090, 3086, 3076, 3074, 10000 + 1715, 10000 + 1730, 10000 + 1746, 10000 + 1762, 10000 + 1779, 10000 + 1794]
theorem fls_u {m : Md} {f : Nat} {u : Ux} (h : m.2.2.2.2.2[f]? = some u) (w : Nat) : fls m f w = ulst u w := by
  unfold fls
  rw [if_pos (get_lt h), h]
theorem lty_a {u : Ux} {k : Nat} (hk : k < u.2.1.length) : ∃ x, u.2.1[k]? = some x ∧ tgt (lty u) k = x.1 := by
  refine ⟨u.2.1[k], List.getElem?_eq_getElem hk, ?_⟩
  unfold tgt lty
  rw [List.getElem?_append_left (by simpa using hk), List.getElem?_map, List.getElem?_eq_getElem hk]; rfl
theorem lty_b {u : Ux} {k : Nat} (hk : u.2.1.length ≤ k) (hk2 : k < nlo u) : ∃ x, u.2.2.2.1[k - u.2.1.length]? = some x ∧ tgt (lty u) k = x.1 := by
  have hl : k - u.2.1.length < u.2.2.2.1.length := by unfold nlo at hk2; omega
  refine ⟨u.2.2.2.1[k - u.2.1.length], List.getElem?_eq_getElem hl, ?_⟩
  unfold tgt lty
  rw [List.getElem?_append_right (by simpa using hk), List.length_map, List.getElem?_map, List.getElem?_eq_getElem hl]; rfl
theorem ls0_v {u : Ux} {k : Nat} (hk : k < nlo u) : lgt (ls0 u) k = if k < u.2.1.length then some (if isRf (tgt (lty u) k) then 2 ^ (40 + k) else 0, false) else none := by
  unfold lgt; rw [ls0_at hk]; rfl
theorem lbeg_ok {G : Gt} {d : Nat} {h : AH} {K : Outcome → AH → Prop} {O U n f N : Nat} {B : Nat → Nat} {m : Md} {u : Ux} (hs : LU h O U n B m) (huf : m.2.2.2.2.2[f]? = some u) (hw : h.I 3073 O = nI f) (hu : gU m u) (hN : N ≤ 1024) (hN1 : 1 ≤ N) (hNu : N = (ui u).length) (gx : ∀ x ∈ ui u, gX m u x) (hd : 6 ≤ d)
    (kk : ∀ h', Fq (FS lbF) h h' → LC h' O U n B m f u → TGd h' O m [] (none, [], []) → TMh h' O N (lty u) (tb0 u) → LEh h' O u → K (.returned none) h') : MW G d e_X25_begin [.ref O] h K := by
  refine st_X25_begin fun X o hG hD _ => ?_
  subst hG; subst hD
  have hn40 := hu.n
  have h8 := hu.1
  have hfl := get_lt huf
  have hlz : ∀ {hx : AH}, Fq (FS lbF) h hx → LU hx O U n B m := fun fx => hs.fr fx.1 (FS.no rfl)
  have hwz : ∀ {hx : AH}, Fq (FS lbF) h hx → hx.I 3073 O = nI f := fun fx => by rw [fx.1.I (FS.n rfl)]; exact hw
  -- what holds from the types on
  let Q : AH → Prop := fun hx => Fq (FS lbF) h hx ∧ hx.I 3090 O = nI 0 ∧ hx.I 3086 O = nI 0 ∧ hx.I 3076 O = nI N ∧ hx.I 3074 O = nI (nlo u)
  let Y : AH → Prop := fun hx => Q hx ∧ ∀ k, k < nlo u → hx.EJ 1715 (O + 1) k = lN (tyc (tgt (lty u) k))
  have Qf : ∀ {hx hy : AH} {l : List Nat}, Q hx → Fq (FS l) hx hy → l.all (fun f => lbF.contains f) = true → [3090, 3086, 3076, 3074].all (fun f => !l.contains f) = true → Q hy := fun {hx hy l} q fq h1 h2 => by
    have nn := FS.no h2
    exact ⟨q.1.trans (fq.mono (FS.mono h1)), by rw [fq.1.I (nn _ _ rfl)]; exact q.2.1, by rw [fq.1.I (nn _ _ rfl)]; exact q.2.2.1, by rw [fq.1.I (nn _ _ rfl)]; exact q.2.2.2.1, by rw [fq.1.I (nn _ _ rfl)]; exact q.2.2.2.2⟩
  have tt3 : 64 ≤ 1715 ∧ 1715 < 4096 ∧ 1715 % 16 = 3 := by decide
  have tt5 : 64 ≤ 1779 ∧ 1779 < 4096 ∧ 1779 % 16 = 3 := by decide
  have tt2 : 64 ≤ 1746 ∧ 1746 < 4096 ∧ 1746 % 16 = 2 := by decide
  -- the first state
  have ph4 : ∀ k i hx v3, k + i = nlo u → Y hx → (∀ q, q < N → hx.EI 1730 (O + 2) q = bI (decide (q = 0))) → LEh hx O u → (∀ q, q < i → TCe hx O q (lgt (ls0 u) q)) → V X K 211 [.ref O, .int (nI u.2.1.length), .int (nI i), v3] [] hx := by
    intro k
    induction k with
    | zero =>
      intro i hx v3 hi yx cx ex tx
      have lx := hlz yx.1.1
      have w0 := lx.1.1
      have w1 := yx.1.2.2.2.2
      refine k_X25_begin_211 (r2 := w1) o (fun _ => ?_) (fun c => absurd ((nI_leI (by omega) (by omega)).mpr (by omega)) c)
      refine k_X25_begin_282 o ?_
      refine kk hx yx.1.1 ⟨lx, ⟨huf, hwz yx.1.1, w1, by rw [← hNu]; exact yx.1.2.2.2.1⟩, yx.2⟩ ⟨yx.1.2.1, ⟨yx.1.2.2.1, trivial, by simp, fun x hx => by cases hx⟩, ⟨fun k hk => by simp at hk, fun k og hk => by simp at hk, rfl, fun k og hk => by simp at hk⟩, trivial⟩ ⟨?_, fun j hj => ?_⟩ ex
      · unfold tb0; simp; omega
      · have et : tat (tb0 u) j = if j = 0 then some (ls0 u) else none := by
          unfold tat tb0
          cases j with
          | zero => rfl
          | succ j => rw [List.getElem?_cons_succ, List.getElem?_replicate, if_pos (by omega), if_neg (by omega)]; rfl
        rw [et, cx j hj]
        by_cases c : j = 0
        · rw [if_pos c, decide_eq_true c]
          refine ⟨rfl, fun l hl => ?_⟩
          cases hl
          subst c
          refine ⟨fun k hk => ?_, ls0_o hu⟩
          rw [ls0_len] at hk
          rw [Nat.mul_zero, Nat.zero_add]; exact tx k (by omega)
        · rw [if_neg c, decide_eq_false c]
          exact ⟨rfl, fun l hl => by cases hl⟩
    | succ k ih =>
      intro i hx v3 hi yx cx ex tx
      have lx := hlz yx.1.1
      obtain ⟨s0, ⟨a1, a2, a3, a4, a5, a6⟩, ⟨b1, b2, b3, b4, b5, b6⟩, ⟨c1, c2, c3, c4, c5, c6⟩, d1, d2, d3, d4, d5, d6⟩ := id lx.1
      have w1 := yx.1.2.2.2.2
      have hi' : i < nlo u := by omega
      have w2 := yx.2 i hi'
      have ixi : IX (nI i) 41000 i := IX.mk (by omega) (by omega)
      have ixl : IX (nI i) 40 i := IX.mk (by omega) (by omega)
      have hv := ls0_v hi'
      refine k_X25_begin_211 (r2 := w1) o (fun c => absurd ((nI_leI (by omega) (by omega)).mp c) (by omega)) (fun _ => ?_)
      have fin : ∀ (e : Bool) (v : Int64), e = decide (i < u.2.1.length) → (i < u.2.1.length → v = lN (if isRf (tgt (lty u) i) then 2 ^ (40 + i) else 0)) → V X K 268 [.ref O, .int (nI u.2.1.length), .int (nI i), .int (bI e)] [.long v, .int (nI i), .ref (O + 5)] (hx.sEI 1762 (O + 4) i (bI e)) := fun e v he hv2 => by
        generalize hh2 : hx.sEI 1762 (O + 4) i (bI e) = h2
        have m1 : h2.tag O = some (24, 0) := by subst hh2; simp [n_sI, z_sI, tag_sI, I_sI, J_sI, R_sI, EI_sI, EJ_sI, ER_sI, n_sJ, z_sJ, tag_sJ, I_sJ, J_sJ, R_sJ, EI_sJ, EJ_sJ, ER_sJ, n_sR, z_sR, tag_sR, I_sR, J_sR, R_sR, EI_sR, EJ_sR, ER_sR, n_sEI, z_sEI, tag_sEI, I_sEI, J_sEI, R_sEI, EI_sEI, EJ_sEI, ER_sEI, n_sEJ, z_sEJ, tag_sEJ, I_sEJ, J_sEJ, R_sEJ, EI_sEJ, EJ_sEJ, ER_sEJ, n_sER, z_sER, tag_sER, I_sER, J_sER, R_sER, EI_sER, EJ_sER, ER_sER, n_nw, z_nw, tag_nw, I_nw, J_nw, R_nw, EI_nw, EJ_nw, ER_nw, s0]
        have m2 : h2.tag (O + 5) = some (1779, 41000) := by subst hh2; simp [n_sI, z_sI, tag_sI, I_sI, J_sI, R_sI, EI_sI, EJ_sI, ER_sI, n_sJ, z_sJ, tag_sJ, I_sJ, J_sJ, R_sJ, EI_sJ, EJ_sJ, ER_sJ, n_sR, z_sR, tag_sR, I_sR, J_sR, R_sR, EI_sR, EJ_sR, ER_sR, n_sEI, z_sEI, tag_sEI, I_sEI, J_sEI, R_sEI, EI_sEI, EJ_sEI, ER_sEI, n_sEJ, z_sEJ, tag_sEJ, I_sEJ, J_sEJ, R_sEJ, EI_sEJ, EJ_sEJ, ER_sEJ, n_sER, z_sER, tag_sER, I_sER, J_sER, R_sER, EI_sER, EJ_sER, ER_sER, n_nw, z_nw, tag_nw, I_nw, J_nw, R_nw, EI_nw, EJ_nw, ER_nw, c5]
        have m3 : h2.R 3082 O = some (O + 6) := by subst hh2; simp [n_sI, z_sI, tag_sI, I_sI, J_sI, R_sI, EI_sI, EJ_sI, ER_sI, n_sJ, z_sJ, tag_sJ, I_sJ, J_sJ, R_sJ, EI_sJ, EJ_sJ, ER_sJ, n_sR, z_sR, tag_sR, I_sR, J_sR, R_sR, EI_sR, EJ_sR, ER_sR, n_sEI, z_sEI, tag_sEI, I_sEI, J_sEI, R_sEI, EI_sEI, EJ_sEI, ER_sEI, n_sEJ, z_sEJ, tag_sEJ, I_sEJ, J_sEJ, R_sEJ, EI_sEJ, EJ_sEJ, ER_sEJ, n_sER, z_sER, tag_sER, I_sER, J_sER, R_sER, EI_sER, EJ_sER, ER_sER, n_nw, z_nw, tag_nw, I_nw, J_nw, R_nw, EI_nw, EJ_nw, ER_nw, a6]
        have m4 : h2.tag (O + 6) = some (1794, 41000) := by subst hh2; simp [n_sI, z_sI, tag_sI, I_sI, J_sI, R_sI, EI_sI, EJ_sI, ER_sI, n_sJ, z_sJ, tag_sJ, I_sJ, J_sJ, R_sJ, EI_sJ, EJ_sJ, ER_sJ, n_sR, z_sR, tag_sR, I_sR, J_sR, R_sR, EI_sR, EJ_sR, ER_sR, n_sEI, z_sEI, tag_sEI, I_sEI, J_sEI, R_sEI, EI_sEI, EJ_sEI, ER_sEI, n_sEJ, z_sEJ, tag_sEJ, I_sEJ, J_sEJ, R_sEJ, EI_sEJ, EJ_sEJ, ER_sEJ, n_sER, z_sER, tag_sER, I_sER, J_sER, R_sER, EI_sER, EJ_sER, ER_sER, n_nw, z_nw, tag_nw, I_nw, J_nw, R_nw, EI_nw, EJ_nw, ER_nw, c6]
        refine k_X25_begin_268 (T1 := 1779) o ?_
        rw [nI_add]
        generalize hh3 : (h2.sEJ 1779 (O + 5) i v).sEI 1794 (O + 6) i (nI 0) = h3
        have f3 : Fq (FS [10000 + 1762, 10000 + 1779, 10000 + 1794]) hx h3 := by subst hh3; subst hh2; exact (by refine (Fq.sEI (Fq.sEJ (Fq.sEI (Fq.refl hx) ?_) ?_) ?_) <;> exact rfl)
        refine ih (i + 1) h3 _ (by omega) ⟨Qf yx.1 f3 rfl rfl, fun k hk => by rw [f3.1.EJ (FS.n rfl)]; exact yx.2 k hk⟩ (fun q hq => by rw [f3.1.EI (FS.n rfl)]; exact cx q hq) (fun q hq => by rw [f3.1.EI (FS.n rfl)]; exact ex q hq) fun q hq => ?_
        by_cases c : q = i
        · subst c
          rw [hv]
          refine ⟨?_, ?_, fun og hg => ?_⟩
          · subst hh3; subst hh2; subst he; simp [n_sI, z_sI, tag_sI, I_sI, J_sI, R_sI, EI_sI, EJ_sI, ER_sI, n_sJ, z_sJ, tag_sJ, I_sJ, J_sJ, R_sJ, EI_sJ, EJ_sJ, ER_sJ, n_sR, z_sR, tag_sR, I_sR, J_sR, R_sR, EI_sR, EJ_sR, ER_sR, n_sEI, z_sEI, tag_sEI, I_sEI, J_sEI, R_sEI, EI_sEI, EJ_sEI, ER_sEI, n_sEJ, z_sEJ, tag_sEJ, I_sEJ, J_sEJ, R_sEJ, EI_sEJ, EJ_sEJ, ER_sEJ, n_sER, z_sER, tag_sER, I_sER, J_sER, R_sER, EI_sER, EJ_sER, ER_sER, n_nw, z_nw, tag_nw, I_nw, J_nw, R_nw, EI_nw, EJ_nw, ER_nw]
            by_cases c : q < u.2.1.length
            · rw [if_pos c, decide_eq_true c]; rfl
            · rw [if_neg c, decide_eq_false c]; rfl
          · subst hh3; subst hh2; simp [n_sI, z_sI, tag_sI, I_sI, J_sI, R_sI, EI_sI, EJ_sI, ER_sI, n_sJ, z_sJ, tag_sJ, I_sJ, J_sJ, R_sJ, EI_sJ, EJ_sJ, ER_sJ, n_sR, z_sR, tag_sR, I_sR, J_sR, R_sR, EI_sR, EJ_sR, ER_sR, n_sEI, z_sEI, tag_sEI, I_sEI, J_sEI, R_sEI, EI_sEI, EJ_sEI, ER_sEI, n_sEJ, z_sEJ, tag_sEJ, I_sEJ, J_sEJ, R_sEJ, EI_sEJ, EJ_sEJ, ER_sEJ, n_sER, z_sER, tag_sER, I_sER, J_sER, R_sER, EI_sER, EJ_sER, ER_sER, n_nw, z_nw, tag_nw, I_nw, J_nw, R_nw, EI_nw, EJ_nw, ER_nw]
            by_cases c : q < u.2.1.length
            · rw [if_pos c]; rfl
            · rw [if_neg c]; rfl
          · by_cases c : q < u.2.1.length
            · rw [if_pos c] at hg
              cases hg
              have := hv2 c
              subst hh3; subst hh2; simp [n_sI, z_sI, tag_sI, I_sI, J_sI, R_sI, EI_sI, EJ_sI, ER_sI, n_sJ, z_sJ, tag_sJ, I_sJ, J_sJ, R_sJ, EI_sJ, EJ_sJ, ER_sJ, n_sR, z_sR, tag_sR, I_sR, J_sR, R_sR, EI_sR, EJ_sR, ER_sR, n_sEI, z_sEI, tag_sEI, I_sEI, J_sEI, R_sEI, EI_sEI, EJ_sEI, ER_sEI, n_sEJ, z_sEJ, tag_sEJ, I_sEJ, J_sEJ, R_sEJ, EI_sEJ, EJ_sEJ, ER_sEJ, n_sER, z_sER, tag_sER, I_sER, J_sER, R_sER, EI_sER, EJ_sER, ER_sER, n_nw, z_nw, tag_nw, I_nw, J_nw, R_nw, EI_nw, EJ_nw, ER_nw, this]
            · rw [if_neg c] at hg; cases hg
        · refine (tx q (by omega)).eq ?_
          subst hh3; subst hh2
          exact ⟨by simp [n_sI, z_sI, tag_sI, I_sI, J_sI, R_sI, EI_sI, EJ_sI, ER_sI, n_sJ, z_sJ, tag_sJ, I_sJ, J_sJ, R_sJ, EI_sJ, EJ_sJ, ER_sJ, n_sR, z_sR, tag_sR, I_sR, J_sR, R_sR, EI_sR, EJ_sR, ER_sR, n_sEI, z_sEI, tag_sEI, I_sEI, J_sEI, R_sEI, EI_sEI, EJ_sEI, ER_sEI, n_sEJ, z_sEJ, tag_sEJ, I_sEJ, J_sEJ, R_sEJ, EI_sEJ, EJ_sEJ, ER_sEJ, n_sER, z_sER, tag_sER, I_sER, J_sER, R_sER, EI_sER, EJ_sER, ER_sER, n_nw, z_nw, tag_nw, I_nw, J_nw, R_nw, EI_nw, EJ_nw, ER_nw, c], by simp [n_sI, z_sI, tag_sI, I_sI, J_sI, R_sI, EI_sI, EJ_sI, ER_sI, n_sJ, z_sJ, tag_sJ, I_sJ, J_sJ, R_sJ, EI_sJ, EJ_sJ, ER_sJ, n_sR, z_sR, tag_sR, I_sR, J_sR, R_sR, EI_sR, EJ_sR, ER_sR, n_sEI, z_sEI, tag_sEI, I_sEI, J_sEI, R_sEI, EI_sEI, EJ_sEI, ER_sEI, n_sEJ, z_sEJ, tag_sEJ, I_sEJ, J_sEJ, R_sEJ, EI_sEJ, EJ_sEJ, ER_sEJ, n_sER, z_sER, tag_sER, I_sER, J_sER, R_sER, EI_sER, EJ_sER, ER_sER, n_nw, z_nw, tag_nw, I_nw, J_nw, R_nw, EI_nw, EJ_nw, ER_nw, c], by simp [n_sI, z_sI, tag_sI, I_sI, J_sI, R_sI, EI_sI, EJ_sI, ER_sI, n_sJ, z_sJ, tag_sJ, I_sJ, J_sJ, R_sJ, EI_sJ, EJ_sJ, ER_sJ, n_sR, z_sR, tag_sR, I_sR, J_sR, R_sR, EI_sR, EJ_sR, ER_sR, n_sEI, z_sEI, tag_sEI, I_sEI, J_sEI, R_sEI, EI_sEI, EJ_sEI, ER_sEI, n_sEJ, z_sEJ, tag_sEJ, I_sEJ, J_sEJ, R_sEJ, EI_sEJ, EJ_sEJ, ER_sEJ, n_sER, z_sER, tag_sER, I_sER, J_sER, R_sER, EI_sER, EJ_sER, ER_sER, n_nw, z_nw, tag_nw, I_nw, J_nw, R_nw, EI_nw, EJ_nw, ER_nw, c]⟩
      refine k_X25_begin_219 o (fun c => ?_) (fun c => ?_)
      · have c := (nI_leI (by omega) (by omega)).mp c
        refine k_X25_begin_228 o ?_
        refine k_X25_begin_229 o (fun _ => ?_) (fun c => absurd rfl c)
        refine k_X25_begin_267 o ?_
        exact fin false 0 (decide_eq_false (by omega)).symm (fun z => by omega)
      · have c : i < u.2.1.length := Nat.not_le.mp fun z => c ((nI_leI (by omega) (by omega)).mpr z)
        refine k_X25_begin_224 o ?_
        refine k_X25_begin_229 o (fun c => absurd (show bI true = 0 from c) (by decide)) (fun _ => ?_)
        have fin := fin true
        generalize hh2 : hx.sEI 1762 (O + 4) i (bI true) = h2 at *
        have hh2' : hx.sEI 1762 (O + 4) i (nI 1) = h2 := hh2
        rw [hh2']
        have m1 : h2.tag O = some (24, 0) := by subst hh2; simp [n_sI, z_sI, tag_sI, I_sI, J_sI, R_sI, EI_sI, EJ_sI, ER_sI, n_sJ, z_sJ, tag_sJ, I_sJ, J_sJ, R_sJ, EI_sJ, EJ_sJ, ER_sJ, n_sR, z_sR, tag_sR, I_sR, J_sR, R_sR, EI_sR, EJ_sR, ER_sR, n_sEI, z_sEI, tag_sEI, I_sEI, J_sEI, R_sEI, EI_sEI, EJ_sEI, ER_sEI, n_sEJ, z_sEJ, tag_sEJ, I_sEJ, J_sEJ, R_sEJ, EI_sEJ, EJ_sEJ, ER_sEJ, n_sER, z_sER, tag_sER, I_sER, J_sER, R_sER, EI_sER, EJ_sER, ER_sER, n_nw, z_nw, tag_nw, I_nw, J_nw, R_nw, EI_nw, EJ_nw, ER_nw, s0]
        have m2 : h2.R 3075 O = some (O + 1) := by subst hh2; simp [n_sI, z_sI, tag_sI, I_sI, J_sI, R_sI, EI_sI, EJ_sI, ER_sI, n_sJ, z_sJ, tag_sJ, I_sJ, J_sJ, R_sJ, EI_sJ, EJ_sJ, ER_sJ, n_sR, z_sR, tag_sR, I_sR, J_sR, R_sR, EI_sR, EJ_sR, ER_sR, n_sEI, z_sEI, tag_sEI, I_sEI, J_sEI, R_sEI, EI_sEI, EJ_sEI, ER_sEI, n_sEJ, z_sEJ, tag_sEJ, I_sEJ, J_sEJ, R_sEJ, EI_sEJ, EJ_sEJ, ER_sEJ, n_sER, z_sER, tag_sER, I_sER, J_sER, R_sER, EI_sER, EJ_sER, ER_sER, n_nw, z_nw, tag_nw, I_nw, J_nw, R_nw, EI_nw, EJ_nw, ER_nw, a1]
        have m3 : h2.tag (O + 1) = some (1715, 40) := by subst hh2; simp [n_sI, z_sI, tag_sI, I_sI, J_sI, R_sI, EI_sI, EJ_sI, ER_sI, n_sJ, z_sJ, tag_sJ, I_sJ, J_sJ, R_sJ, EI_sJ, EJ_sJ, ER_sJ, n_sR, z_sR, tag_sR, I_sR, J_sR, R_sR, EI_sR, EJ_sR, ER_sR, n_sEI, z_sEI, tag_sEI, I_sEI, J_sEI, R_sEI, EI_sEI, EJ_sEI, ER_sEI, n_sEJ, z_sEJ, tag_sEJ, I_sEJ, J_sEJ, R_sEJ, EI_sEJ, EJ_sEJ, ER_sEJ, n_sER, z_sER, tag_sER, I_sER, J_sER, R_sER, EI_sER, EJ_sER, ER_sER, n_nw, z_nw, tag_nw, I_nw, J_nw, R_nw, EI_nw, EJ_nw, ER_nw, c1]
        have m4 : h2.EJ 1715 (O + 1) i = lN (tyc (tgt (lty u) i)) := by subst hh2; simp [n_sI, z_sI, tag_sI, I_sI, J_sI, R_sI, EI_sI, EJ_sI, ER_sI, n_sJ, z_sJ, tag_sJ, I_sJ, J_sJ, R_sJ, EI_sJ, EJ_sJ, ER_sJ, n_sR, z_sR, tag_sR, I_sR, J_sR, R_sR, EI_sR, EJ_sR, ER_sR, n_sEI, z_sEI, tag_sEI, I_sEI, J_sEI, R_sEI, EI_sEI, EJ_sEI, ER_sEI, n_sEJ, z_sEJ, tag_sEJ, I_sEJ, J_sEJ, R_sEJ, EI_sEJ, EJ_sEJ, ER_sEJ, n_sER, z_sER, tag_sER, I_sER, J_sER, R_sER, EI_sER, EJ_sER, ER_sER, n_nw, z_nw, tag_nw, I_nw, J_nw, R_nw, EI_nw, EJ_nw, ER_nw, w2]
        refine k_X25_begin_246 o ?_
        refine lirf_ok (hu.lt hi').ok.tv.1 (by omega) ?_
        cases hr : isRf (tgt (lty u) i) with
        | false =>
          refine k_X25_begin_255 o (fun _ => ?_) (fun c => absurd rfl c)
          refine k_X25_begin_267 o ?_
          exact fin 0 (decide_eq_true c).symm (fun _ => by rw [hr]; rfl)
        | true =>
          refine k_X25_begin_255 o (fun c => absurd (show bI true = 0 from c) (by decide)) (fun _ => ?_)
          refine k_X25_begin_258 o ?_
          rw [nI_add]
          exact fin _ (decide_eq_true c).symm (fun _ => by rw [hr, if_pos rfl]; exact lN_pw (by omega))
  -- where branches lead
  have ph3 : ∀ k i hx v3, k + i = N → Y hx → (∀ q, q < N → hx.EI 1730 (O + 2) q = nI 0) → (∀ q, q < N → hx.EI 1746 (O + 3) q = bI (((ui u).take i).any fun x => decide (2 ≤ x.1 ∧ x.1 ≤ 4) && x.2.1 == q)) → V X K 145 [.ref O, .int (nI u.2.1.length), .int (nI i), v3] [] hx := by
    intro k
    induction k with
    | zero =>
      intro i hx v3 hi yx cx ex
      have lx := hlz yx.1.1
      obtain ⟨s0, ⟨a1, a2, a3, a4, a5, a6⟩, ⟨b1, b2, b3, b4, b5, b6⟩, ⟨c1, c2, c3, c4, c5, c6⟩, d1, d2, d3, d4, d5, d6⟩ := id lx.1
      have w1 := yx.1.2.2.2.1
      refine k_X25_begin_145 (r2 := w1) o (fun _ => ?_) (fun c => absurd ((nI_leI (by omega) (by omega)).mpr (by omega)) c)
      have ix0 : IX (nI 0) 1025 0 := IX.mk (by omega) (by omega)
      refine k_X25_begin_202 o ?_
      have f3 : Fq (FS [10000 + 1730]) hx (hx.sEI 1730 (O + 2) 0 (nI 1)) := (Fq.refl hx).sEI rfl
      have ec : ∀ q, q < N → (hx.sEI 1730 (O + 2) 0 (nI 1)).EI 1730 (O + 2) q = bI (decide (q = 0)) := fun q hq => by
        by_cases c : q = 0
        · subst c; simp [n_sI, z_sI, tag_sI, I_sI, J_sI, R_sI, EI_sI, EJ_sI, ER_sI, n_sJ, z_sJ, tag_sJ, I_sJ, J_sJ, R_sJ, EI_sJ, EJ_sJ, ER_sJ, n_sR, z_sR, tag_sR, I_sR, J_sR, R_sR, EI_sR, EJ_sR, ER_sR, n_sEI, z_sEI, tag_sEI, I_sEI, J_sEI, R_sEI, EI_sEI, EJ_sEI, ER_sEI, n_sEJ, z_sEJ, tag_sEJ, I_sEJ, J_sEJ, R_sEJ, EI_sEJ, EJ_sEJ, ER_sEJ, n_sER, z_sER, tag_sER, I_sER, J_sER, R_sER, EI_sER, EJ_sER, ER_sER, n_nw, z_nw, tag_nw, I_nw, J_nw, R_nw, EI_nw, EJ_nw, ER_nw]; rfl
        · rw [decide_eq_false c, show bI false = nI 0 from rfl, ← cx q hq]; simp [n_sI, z_sI, tag_sI, I_sI, J_sI, R_sI, EI_sI, EJ_sI, ER_sI, n_sJ, z_sJ, tag_sJ, I_sJ, J_sJ, R_sJ, EI_sJ, EJ_sJ, ER_sJ, n_sR, z_sR, tag_sR, I_sR, J_sR, R_sR, EI_sR, EJ_sR, ER_sR, n_sEI, z_sEI, tag_sEI, I_sEI, J_sEI, R_sEI, EI_sEI, EJ_sEI, ER_sEI, n_sEJ, z_sEJ, tag_sEJ, I_sEJ, J_sEJ, R_sEJ, EI_sEJ, EJ_sEJ, ER_sEJ, n_sER, z_sER, tag_sER, I_sER, J_sER, R_sER, EI_sER, EJ_sER, ER_sER, n_nw, z_nw, tag_nw, I_nw, J_nw, R_nw, EI_nw, EJ_nw, ER_nw, c]
      generalize hx.sEI 1730 (O + 2) 0 (nI 1) = h3 at *
      refine ph4 (nlo u) 0 h3 v3 (by omega) ⟨Qf yx.1 f3 rfl rfl, fun k hk => by rw [f3.1.EJ (FS.n rfl)]; exact yx.2 k hk⟩ ec (fun q hq => ?_) (fun q hq => by omega)
      rw [f3.1.EI (FS.n rfl), ex q (by omega), List.take_of_length_le (by omega)]; rfl
    | succ k ih =>
      intro i hx v3 hi yx cx ex
      have lx := hlz yx.1.1
      obtain ⟨s0, ⟨a1, a2, a3, a4, a5, a6⟩, ⟨b1, b2, b3, b4, b5, b6⟩, ⟨c1, c2, c3, c4, c5, c6⟩, d1, d2, d3, d4, d5, d6⟩ := id lx.1
      obtain ⟨-, u1, u2, u3⟩ := id lx
      have u4 := u2.1.1
      have w1 := yx.1.2.2.2.1
      have w2 := hwz yx.1.1
      have hil : i < (ui u).length := by omega
      have hxi : (ui u)[i]? = some (ui u)[i] := List.getElem?_eq_getElem hil
      have hgx := gx _ (List.getElem_mem hil)
      have etk : (ui u).take (i + 1) = (ui u).take i ++ [(ui u)[i]] := by rw [List.take_succ, hxi]; rfl
      generalize (ui u)[i] = x at hxi hgx etk
      have ho := hgx.2.1
      have nxt : ∀ hy v3, Y hy → (∀ q, q < N → hy.EI 1730 (O + 2) q = nI 0) → (∀ q, q < N → hy.EI 1746 (O + 3) q = bI ((((ui u).take i).any fun x => decide (2 ≤ x.1 ∧ x.1 ≤ 4) && x.2.1 == q) || (decide (2 ≤ x.1 ∧ x.1 ≤ 4) && x.2.1 == q))) → V X K 196 [.ref O, .int (nI u.2.1.length), .int (nI i), v3] [] hy := fun hy v3 yy cy ey => by
        refine k_X25_begin_196 o ?_
        rw [nI_add]
        refine ih (i + 1) hy v3 (by omega) yy cy fun q hq => ?_
        rw [ey q hq, etk, List.any_append]; simp
      refine k_X25_begin_145 (r2 := w1) o (fun c => absurd ((nI_leI (by omega) (by omega)).mp c) (by omega)) (fun _ => ?_)
      refine k_X25_begin_153 o ?_
      refine uope_ok u2 u3 huf hxi (by omega) ?_
      refine k_X25_begin_165 o (fun c => ?_) (fun c => ?_)
      · have c := (nI_leI (by omega) (by omega)).mp c
        refine nxt hx _ yx cx fun q hq => ?_
        rw [ex q hq, decide_eq_false (show ¬ (2 ≤ x.1 ∧ x.1 ≤ 4) by omega)]; simp
      · have c : 2 ≤ x.1 := Nat.not_lt.mp fun z => c ((nI_leI (by omega) (by omega)).mpr (by omega))
        refine k_X25_begin_171 o (fun c2 => ?_) (fun c2 => ?_)
        · have c2 := (nI_leI (by omega) (by omega)).mp c2
          refine nxt hx _ yx cx fun q hq => ?_
          rw [ex q hq, decide_eq_false (show ¬ (2 ≤ x.1 ∧ x.1 ≤ 4) by omega)]; simp
        · have c2 : x.1 ≤ 4 := Nat.not_lt.mp fun z => c2 ((nI_leI (by omega) (by omega)).mpr (by omega))
          have hb := hgx.br ⟨c, c2⟩
          refine k_X25_begin_176 o ?_
          refine uopn_ok u2 u3 huf hxi (by omega) (by omega) ?_
          have ixt : IX ((lN x.2.1).toInt32) 1025 x.2.1 := by rw [lN_32]; exact IX.mk (by omega) (by omega)
          show V X K 193 [.ref O, .int (nI u.2.1.length), .int (nI i), .int (nI x.1)] [.long (lN x.2.1), .ref (O + 3)] hx
          refine k_X25_begin_193 (T1 := 1746) o ?_
          have f3 : Fq (FS [10000 + 1746]) hx (hx.sEI 1746 (O + 3) x.2.1 (nI 1)) := (Fq.refl hx).sEI rfl
          refine nxt (hx.sEI 1746 (O + 3) x.2.1 (nI 1)) _ ⟨Qf yx.1 f3 rfl rfl, fun k hk => by rw [f3.1.EJ (FS.n rfl)]; exact yx.2 k hk⟩ (fun q hq => by have := cx q hq; simpa [n_sI, z_sI, tag_sI, I_sI, J_sI, R_sI, EI_sI, EJ_sI, ER_sI, n_sJ, z_sJ, tag_sJ, I_sJ, J_sJ, R_sJ, EI_sJ, EJ_sJ, ER_sJ, n_sR, z_sR, tag_sR, I_sR, J_sR, R_sR, EI_sR, EJ_sR, ER_sR, n_sEI, z_sEI, tag_sEI, I_sEI, J_sEI, R_sEI, EI_sEI, EJ_sEI, ER_sEI, n_sEJ, z_sEJ, tag_sEJ, I_sEJ, J_sEJ, R_sEJ, EI_sEJ, EJ_sEJ, ER_sEJ, n_sER, z_sER, tag_sER, I_sER, J_sER, R_sER, EI_sER, EJ_sER, ER_sER, n_nw, z_nw, tag_nw, I_nw, J_nw, R_nw, EI_nw, EJ_nw, ER_nw] using this) fun q hq => ?_
          rw [decide_eq_true (show 2 ≤ x.1 ∧ x.1 ≤ 4 from ⟨c, c2⟩), Bool.true_and]
          by_cases cq : q = x.2.1
          · subst cq
            have : (x.2.1 == x.2.1) = true := by simp
            rw [this, Bool.or_true]; simp [n_sI, z_sI, tag_sI, I_sI, J_sI, R_sI, EI_sI, EJ_sI, ER_sI, n_sJ, z_sJ, tag_sJ, I_sJ, J_sJ, R_sJ, EI_sJ, EJ_sJ, ER_sJ, n_sR, z_sR, tag_sR, I_sR, J_sR, R_sR, EI_sR, EJ_sR, ER_sR, n_sEI, z_sEI, tag_sEI, I_sEI, J_sEI, R_sEI, EI_sEI, EJ_sEI, ER_sEI, n_sEJ, z_sEJ, tag_sEJ, I_sEJ, J_sEJ, R_sEJ, EI_sEJ, EJ_sEJ, ER_sEJ, n_sER, z_sER, tag_sER, I_sER, J_sER, R_sER, EI_sER, EJ_sER, ER_sER, n_nw, z_nw, tag_nw, I_nw, J_nw, R_nw, EI_nw, EJ_nw, ER_nw]; rfl
          · have e : (x.2.1 == q) = false := by simp; omega
            rw [e, Bool.or_false, ← ex q hq]; simp [n_sI, z_sI, tag_sI, I_sI, J_sI, R_sI, EI_sI, EJ_sI, ER_sI, n_sJ, z_sJ, tag_sJ, I_sJ, J_sJ, R_sJ, EI_sJ, EJ_sJ, ER_sJ, n_sR, z_sR, tag_sR, I_sR, J_sR, R_sR, EI_sR, EJ_sR, ER_sR, n_sEI, z_sEI, tag_sEI, I_sEI, J_sEI, R_sEI, EI_sEI, EJ_sEI, ER_sEI, n_sEJ, z_sEJ, tag_sEJ, I_sEJ, J_sEJ, R_sEJ, EI_sEJ, EJ_sEJ, ER_sEJ, n_sER, z_sER, tag_sER, I_sER, J_sER, R_sER, EI_sER, EJ_sER, ER_sER, n_nw, z_nw, tag_nw, I_nw, J_nw, R_nw, EI_nw, EJ_nw, ER_nw, cq]
  -- none at first
  have ph2 : ∀ k i hx v3, k + i = 1025 → Y hx → (∀ q, q < i → hx.EI 1730 (O + 2) q = nI 0 ∧ hx.EI 1746 (O + 3) q = nI 0) → V X K 116 [.ref O, .int (nI u.2.1.length), .int (nI i), v3] [] hx := by
    intro k
    induction k with
    | zero =>
      intro i hx v3 hi yx cx
      refine k_X25_begin_116 o (fun _ => ?_) (fun c => absurd ((nI_ltI (by omega) (by omega)).mpr (by omega)) c)
      refine k_X25_begin_143 o ?_
      exact ph3 N 0 hx v3 (by omega) yx (fun q hq => (cx q (by omega)).1) (fun q hq => (cx q (by omega)).2)
    | succ k ih =>
      intro i hx v3 hi yx cx
      have lx := hlz yx.1.1
      obtain ⟨s0, ⟨a1, a2, a3, a4, a5, a6⟩, ⟨b1, b2, b3, b4, b5, b6⟩, ⟨c1, c2, c3, c4, c5, c6⟩, d1, d2, d3, d4, d5, d6⟩ := id lx.1
      have ixi : IX (nI i) 1025 i := IX.mk (by omega) (by omega)
      refine k_X25_begin_116 o (fun c => absurd ((nI_ltI (by omega) (by omega)).mp c) (by omega)) (fun _ => ?_)
      refine k_X25_begin_123 o ?_
      rw [nI_add]
      have f3 : Fq (FS [10000 + 1730, 10000 + 1746]) hx ((hx.sEI 1730 (O + 2) i (nI 0)).sEI 1746 (O + 3) i (nI 0)) := (by refine (Fq.sEI (Fq.sEI (Fq.refl hx) ?_) ?_) <;> exact rfl)
      refine ih (i + 1) ((hx.sEI 1730 (O + 2) i (nI 0)).sEI 1746 (O + 3) i (nI 0)) v3 (by omega) ⟨Qf yx.1 f3 rfl rfl, fun k hk => by rw [f3.1.EJ (FS.n rfl)]; exact yx.2 k hk⟩ (fun q hq => ?_)
      by_cases c : q = i
      · subst c; exact ⟨by simp [n_sI, z_sI, tag_sI, I_sI, J_sI, R_sI, EI_sI, EJ_sI, ER_sI, n_sJ, z_sJ, tag_sJ, I_sJ, J_sJ, R_sJ, EI_sJ, EJ_sJ, ER_sJ, n_sR, z_sR, tag_sR, I_sR, J_sR, R_sR, EI_sR, EJ_sR, ER_sR, n_sEI, z_sEI, tag_sEI, I_sEI, J_sEI, R_sEI, EI_sEI, EJ_sEI, ER_sEI, n_sEJ, z_sEJ, tag_sEJ, I_sEJ, J_sEJ, R_sEJ, EI_sEJ, EJ_sEJ, ER_sEJ, n_sER, z_sER, tag_sER, I_sER, J_sER, R_sER, EI_sER, EJ_sER, ER_sER, n_nw, z_nw, tag_nw, I_nw, J_nw, R_nw, EI_nw, EJ_nw, ER_nw], by simp [n_sI, z_sI, tag_sI, I_sI, J_sI, R_sI, EI_sI, EJ_sI, ER_sI, n_sJ, z_sJ, tag_sJ, I_sJ, J_sJ, R_sJ, EI_sJ, EJ_sJ, ER_sJ, n_sR, z_sR, tag_sR, I_sR, J_sR, R_sR, EI_sR, EJ_sR, ER_sR, n_sEI, z_sEI, tag_sEI, I_sEI, J_sEI, R_sEI, EI_sEI, EJ_sEI, ER_sEI, n_sEJ, z_sEJ, tag_sEJ, I_sEJ, J_sEJ, R_sEJ, EI_sEJ, EJ_sEJ, ER_sEJ, n_sER, z_sER, tag_sER, I_sER, J_sER, R_sER, EI_sER, EJ_sER, ER_sER, n_nw, z_nw, tag_nw, I_nw, J_nw, R_nw, EI_nw, EJ_nw, ER_nw]⟩
      · obtain ⟨z1, z2⟩ := cx q (by omega)
        exact ⟨by simpa [n_sI, z_sI, tag_sI, I_sI, J_sI, R_sI, EI_sI, EJ_sI, ER_sI, n_sJ, z_sJ, tag_sJ, I_sJ, J_sJ, R_sJ, EI_sJ, EJ_sJ, ER_sJ, n_sR, z_sR, tag_sR, I_sR, J_sR, R_sR, EI_sR, EJ_sR, ER_sR, n_sEI, z_sEI, tag_sEI, I_sEI, J_sEI, R_sEI, EI_sEI, EJ_sEI, ER_sEI, n_sEJ, z_sEJ, tag_sEJ, I_sEJ, J_sEJ, R_sEJ, EI_sEJ, EJ_sEJ, ER_sEJ, n_sER, z_sER, tag_sER, I_sER, J_sER, R_sER, EI_sER, EJ_sER, ER_sER, n_nw, z_nw, tag_nw, I_nw, J_nw, R_nw, EI_nw, EJ_nw, ER_nw, c] using z1, by simpa [n_sI, z_sI, tag_sI, I_sI, J_sI, R_sI, EI_sI, EJ_sI, ER_sI, n_sJ, z_sJ, tag_sJ, I_sJ, J_sJ, R_sJ, EI_sJ, EJ_sJ, ER_sJ, n_sR, z_sR, tag_sR, I_sR, J_sR, R_sR, EI_sR, EJ_sR, ER_sR, n_sEI, z_sEI, tag_sEI, I_sEI, J_sEI, R_sEI, EI_sEI, EJ_sEI, ER_sEI, n_sEJ, z_sEJ, tag_sEJ, I_sEJ, J_sEJ, R_sEJ, EI_sEJ, EJ_sEJ, ER_sEJ, n_sER, z_sER, tag_sER, I_sER, J_sER, R_sER, EI_sER, EJ_sER, ER_sER, n_nw, z_nw, tag_nw, I_nw, J_nw, R_nw, EI_nw, EJ_nw, ER_nw, c] using z2⟩
  -- types of locals
  have ph1 : ∀ k i hx v3, k + i = nlo u → Q hx → (∀ q, q < i → hx.EJ 1715 (O + 1) q = lN (tyc (tgt (lty u) q))) → V X K 58 [.ref O, .int (nI u.2.1.length), .int (nI i), v3] [] hx := by
    intro k
    induction k with
    | zero =>
      intro i hx v3 hi yx cx
      have lx := hlz yx.1
      have w0 := lx.1.1
      have w1 := yx.2.2.2.2
      refine k_X25_begin_58 (r2 := w1) o (fun _ => ?_) (fun c => absurd ((nI_leI (by omega) (by omega)).mpr (by omega)) c)
      refine k_X25_begin_114 o ?_
      exact ph2 1025 0 hx v3 (by omega) ⟨yx, fun q hq => cx q (by omega)⟩ (fun q hq => by omega)
    | succ k ih =>
      intro i hx v3 hi yx cx
      have lx := hlz yx.1
      obtain ⟨s0, ⟨a1, a2, a3, a4, a5, a6⟩, ⟨b1, b2, b3, b4, b5, b6⟩, ⟨c1, c2, c3, c4, c5, c6⟩, d1, d2, d3, d4, d5, d6⟩ := id lx.1
      obtain ⟨-, u1, u2, u3⟩ := id lx
      have u4 := u2.1.1
      have w1 := yx.2.2.2.2
      have w2 := hwz yx.1
      have hi' : i < nlo u := by omega
      have ixl : IX (nI i) 40 i := IX.mk (by omega) (by omega)
      have fin : V X K 107 [.ref O, .int (nI u.2.1.length), .int (nI i), v3] [.long (lN (tyc (tgt (lty u) i))), .int (nI i), .ref (O + 1)] hx := by
        refine k_X25_begin_107 (T1 := 1715) o ?_
        rw [nI_add]
        have f3 : Fq (FS [10000 + 1715]) hx (hx.sEJ 1715 (O + 1) i (lN (tyc (tgt (lty u) i)))) := (Fq.refl hx).sEJ rfl
        refine ih (i + 1) _ v3 (by omega) (Qf yx f3 rfl rfl) fun q hq => ?_
        by_cases c : q = i
        · subst c; simp [n_sI, z_sI, tag_sI, I_sI, J_sI, R_sI, EI_sI, EJ_sI, ER_sI, n_sJ, z_sJ, tag_sJ, I_sJ, J_sJ, R_sJ, EI_sJ, EJ_sJ, ER_sJ, n_sR, z_sR, tag_sR, I_sR, J_sR, R_sR, EI_sR, EJ_sR, ER_sR, n_sEI, z_sEI, tag_sEI, I_sEI, J_sEI, R_sEI, EI_sEI, EJ_sEI, ER_sEI, n_sEJ, z_sEJ, tag_sEJ, I_sEJ, J_sEJ, R_sEJ, EI_sEJ, EJ_sEJ, ER_sEJ, n_sER, z_sER, tag_sER, I_sER, J_sER, R_sER, EI_sER, EJ_sER, ER_sER, n_nw, z_nw, tag_nw, I_nw, J_nw, R_nw, EI_nw, EJ_nw, ER_nw]
        · have := cx q (by omega)
          simpa [n_sI, z_sI, tag_sI, I_sI, J_sI, R_sI, EI_sI, EJ_sI, ER_sI, n_sJ, z_sJ, tag_sJ, I_sJ, J_sJ, R_sJ, EI_sJ, EJ_sJ, ER_sJ, n_sR, z_sR, tag_sR, I_sR, J_sR, R_sR, EI_sR, EJ_sR, ER_sR, n_sEI, z_sEI, tag_sEI, I_sEI, J_sEI, R_sEI, EI_sEI, EJ_sEI, ER_sEI, n_sEJ, z_sEJ, tag_sEJ, I_sEJ, J_sEJ, R_sEJ, EI_sEJ, EJ_sEJ, ER_sEJ, n_sER, z_sER, tag_sER, I_sER, J_sER, R_sER, EI_sER, EJ_sER, ER_sER, n_nw, z_nw, tag_nw, I_nw, J_nw, R_nw, EI_nw, EJ_nw, ER_nw, c] using this
      refine k_X25_begin_58 (r2 := w1) o (fun c => absurd ((nI_leI (by omega) (by omega)).mp c) (by omega)) (fun _ => ?_)
      refine k_X25_begin_66 o (fun c => ?_) (fun c => ?_)
      · have c := (nI_leI (by omega) (by omega)).mp c
        obtain ⟨x, x1, x2⟩ := lty_b c hi'
        refine k_X25_begin_92 o ?_
        rw [nI_sub (by omega)]
        refine ulst_ok (w := 2) (x := x) u2 u3 (by omega) (by omega) (by rw [fls_u huf]; exact x1) (by omega) ?_
        rw [← x2]
        exact fin
      · have c : i < u.2.1.length := Nat.not_le.mp fun z => c ((nI_leI (by omega) (by omega)).mpr z)
        obtain ⟨x, x1, x2⟩ := lty_a c
        refine k_X25_begin_76 o ?_
        refine ulst_ok (w := 0) (x := x) u2 u3 (by omega) (by omega) (by rw [fls_u huf]; exact x1) (by omega) ?_
        rw [← x2]
        refine k_X25_begin_89 o ?_
        exact fin
  have t0 := hs.1.1
  obtain ⟨-, u1, u2, u3⟩ := id hs
  have u4 := u2.1.1
  refine k_X25_begin_0 o ?_
  have f1 : Fq (FS lbF) h ((h.sI 3090 O (nI 0)).sI 3086 O (nI 0)) := (by refine (Fq.sI (Fq.sI (Fq.refl h) ?_) ?_) <;> exact rfl)
  have e1 : ((h.sI 3090 O (nI 0)).sI 3086 O (nI 0)).I 3090 O = nI 0 := by simp [n_sI, z_sI, tag_sI, I_sI, J_sI, R_sI, EI_sI, EJ_sI, ER_sI, n_sJ, z_sJ, tag_sJ, I_sJ, J_sJ, R_sJ, EI_sJ, EJ_sJ, ER_sJ, n_sR, z_sR, tag_sR, I_sR, J_sR, R_sR, EI_sR, EJ_sR, ER_sR, n_sEI, z_sEI, tag_sEI, I_sEI, J_sEI, R_sEI, EI_sEI, EJ_sEI, ER_sEI, n_sEJ, z_sEJ, tag_sEJ, I_sEJ, J_sEJ, R_sEJ, EI_sEJ, EJ_sEJ, ER_sEJ, n_sER, z_sER, tag_sER, I_sER, J_sER, R_sER, EI_sER, EJ_sER, ER_sER, n_nw, z_nw, tag_nw, I_nw, J_nw, R_nw, EI_nw, EJ_nw, ER_nw]
  have e2 : ((h.sI 3090 O (nI 0)).sI 3086 O (nI 0)).I 3086 O = nI 0 := by simp [n_sI, z_sI, tag_sI, I_sI, J_sI, R_sI, EI_sI, EJ_sI, ER_sI, n_sJ, z_sJ, tag_sJ, I_sJ, J_sJ, R_sJ, EI_sJ, EJ_sJ, ER_sJ, n_sR, z_sR, tag_sR, I_sR, J_sR, R_sR, EI_sR, EJ_sR, ER_sR, n_sEI, z_sEI, tag_sEI, I_sEI, J_sEI, R_sEI, EI_sEI, EJ_sEI, ER_sEI, n_sEJ, z_sEJ, tag_sEJ, I_sEJ, J_sEJ, R_sEJ, EI_sEJ, EJ_sEJ, ER_sEJ, n_sER, z_sER, tag_sER, I_sER, J_sER, R_sER, EI_sER, EJ_sER, ER_sER, n_nw, z_nw, tag_nw, I_nw, J_nw, R_nw, EI_nw, EJ_nw, ER_nw]
  generalize (h.sI 3090 O (nI 0)).sI 3086 O (nI 0) = h1 at *
  have l1 := hlz f1
  refine uins_ok l1.2.2.1 l1.2.2.2 huf ?_
  rw [← hNu]
  have w0 := l1.1.1
  have w1 := l1.2.1
  have w2 := hwz f1
  have w3 := l1.2.2.1.1.1
  refine k_X25_begin_22 o ?_
  have f2 : Fq (FS lbF) h (h1.sI 3076 O (nI N)) := f1.sI rfl
  have e3 : (h1.sI 3076 O (nI N)).I 3090 O = nI 0 := by simp [n_sI, z_sI, tag_sI, I_sI, J_sI, R_sI, EI_sI, EJ_sI, ER_sI, n_sJ, z_sJ, tag_sJ, I_sJ, J_sJ, R_sJ, EI_sJ, EJ_sJ, ER_sJ, n_sR, z_sR, tag_sR, I_sR, J_sR, R_sR, EI_sR, EJ_sR, ER_sR, n_sEI, z_sEI, tag_sEI, I_sEI, J_sEI, R_sEI, EI_sEI, EJ_sEI, ER_sEI, n_sEJ, z_sEJ, tag_sEJ, I_sEJ, J_sEJ, R_sEJ, EI_sEJ, EJ_sEJ, ER_sEJ, n_sER, z_sER, tag_sER, I_sER, J_sER, R_sER, EI_sER, EJ_sER, ER_sER, n_nw, z_nw, tag_nw, I_nw, J_nw, R_nw, EI_nw, EJ_nw, ER_nw, e1]
  have e4 : (h1.sI 3076 O (nI N)).I 3086 O = nI 0 := by simp [n_sI, z_sI, tag_sI, I_sI, J_sI, R_sI, EI_sI, EJ_sI, ER_sI, n_sJ, z_sJ, tag_sJ, I_sJ, J_sJ, R_sJ, EI_sJ, EJ_sJ, ER_sJ, n_sR, z_sR, tag_sR, I_sR, J_sR, R_sR, EI_sR, EJ_sR, ER_sR, n_sEI, z_sEI, tag_sEI, I_sEI, J_sEI, R_sEI, EI_sEI, EJ_sEI, ER_sEI, n_sEJ, z_sEJ, tag_sEJ, I_sEJ, J_sEJ, R_sEJ, EI_sEJ, EJ_sEJ, ER_sEJ, n_sER, z_sER, tag_sER, I_sER, J_sER, R_sER, EI_sER, EJ_sER, ER_sER, n_nw, z_nw, tag_nw, I_nw, J_nw, R_nw, EI_nw, EJ_nw, ER_nw, e2]
  have e5 : (h1.sI 3076 O (nI N)).I 3076 O = nI N := by simp [n_sI, z_sI, tag_sI, I_sI, J_sI, R_sI, EI_sI, EJ_sI, ER_sI, n_sJ, z_sJ, tag_sJ, I_sJ, J_sJ, R_sJ, EI_sJ, EJ_sJ, ER_sJ, n_sR, z_sR, tag_sR, I_sR, J_sR, R_sR, EI_sR, EJ_sR, ER_sR, n_sEI, z_sEI, tag_sEI, I_sEI, J_sEI, R_sEI, EI_sEI, EJ_sEI, ER_sEI, n_sEJ, z_sEJ, tag_sEJ, I_sEJ, J_sEJ, R_sEJ, EI_sEJ, EJ_sEJ, ER_sEJ, n_sER, z_sER, tag_sER, I_sER, J_sER, R_sER, EI_sER, EJ_sER, ER_sER, n_nw, z_nw, tag_nw, I_nw, J_nw, R_nw, EI_nw, EJ_nw, ER_nw]
  generalize h1.sI 3076 O (nI N) = h2 at *
  have l2 := hlz f2
  refine umny_ok (w := 0) l2.2.2.1 l2.2.2.2 (by omega) (by omega) (by omega) ?_
  rw [fls_u huf]
  have v0 := l2.1.1
  have v1 := l2.2.1
  have v2 := hwz f2
  have v3 := l2.2.2.1.1.1
  refine k_X25_begin_37 o ?_
  refine umny_ok (w := 2) l2.2.2.1 l2.2.2.2 (by omega) (by omega) (by omega) ?_
  rw [fls_u huf]
  refine k_X25_begin_52 o ?_
  rw [nI_add]
  refine ph1 (nlo u) 0 _ _ (by omega) ⟨f2.sI rfl, ?_, ?_, ?_, ?_⟩ (fun q hq => by omega)
  · simp [n_sI, z_sI, tag_sI, I_sI, J_sI, R_sI, EI_sI, EJ_sI, ER_sI, n_sJ, z_sJ, tag_sJ, I_sJ, J_sJ, R_sJ, EI_sJ, EJ_sJ, ER_sJ, n_sR, z_sR, tag_sR, I_sR, J_sR, R_sR, EI_sR, EJ_sR, ER_sR, n_sEI, z_sEI, tag_sEI, I_sEI, J_sEI, R_sEI, EI_sEI, EJ_sEI, ER_sEI, n_sEJ, z_sEJ, tag_sEJ, I_sEJ, J_sEJ, R_sEJ, EI_sEJ, EJ_sEJ, ER_sEJ, n_sER, z_sER, tag_sER, I_sER, J_sER, R_sER, EI_sER, EJ_sER, ER_sER, n_nw, z_nw, tag_nw, I_nw, J_nw, R_nw, EI_nw, EJ_nw, ER_nw, e3]
  · simp [n_sI, z_sI, tag_sI, I_sI, J_sI, R_sI, EI_sI, EJ_sI, ER_sI, n_sJ, z_sJ, tag_sJ, I_sJ, J_sJ, R_sJ, EI_sJ, EJ_sJ, ER_sJ, n_sR, z_sR, tag_sR, I_sR, J_sR, R_sR, EI_sR, EJ_sR, ER_sR, n_sEI, z_sEI, tag_sEI, I_sEI, J_sEI, R_sEI, EI_sEI, EJ_sEI, ER_sEI, n_sEJ, z_sEJ, tag_sEJ, I_sEJ, J_sEJ, R_sEJ, EI_sEJ, EJ_sEJ, ER_sEJ, n_sER, z_sER, tag_sER, I_sER, J_sER, R_sER, EI_sER, EJ_sER, ER_sER, n_nw, z_nw, tag_nw, I_nw, J_nw, R_nw, EI_nw, EJ_nw, ER_nw, e4]
  · simp [n_sI, z_sI, tag_sI, I_sI, J_sI, R_sI, EI_sI, EJ_sI, ER_sI, n_sJ, z_sJ, tag_sJ, I_sJ, J_sJ, R_sJ, EI_sJ, EJ_sJ, ER_sJ, n_sR, z_sR, tag_sR, I_sR, J_sR, R_sR, EI_sR, EJ_sR, ER_sR, n_sEI, z_sEI, tag_sEI, I_sEI, J_sEI, R_sEI, EI_sEI, EJ_sEI, ER_sEI, n_sEJ, z_sEJ, tag_sEJ, I_sEJ, J_sEJ, R_sEJ, EI_sEJ, EJ_sEJ, ER_sEJ, n_sER, z_sER, tag_sER, I_sER, J_sER, R_sER, EI_sER, EJ_sER, ER_sER, n_nw, z_nw, tag_nw, I_nw, J_nw, R_nw, EI_nw, EJ_nw, ER_nw, e5]
  · simp [n_sI, z_sI, tag_sI, I_sI, J_sI, R_sI, EI_sI, EJ_sI, ER_sI, n_sJ, z_sJ, tag_sJ, I_sJ, J_sJ, R_sJ, EI_sJ, EJ_sJ, ER_sJ, n_sR, z_sR, tag_sR, I_sR, J_sR, R_sR, EI_sR, EJ_sR, ER_sR, n_sEI, z_sEI, tag_sEI, I_sEI, J_sEI, R_sEI, EI_sEI, EJ_sEI, ER_sEI, n_sEJ, z_sEJ, tag_sEJ, I_sEJ, J_sEJ, R_sEJ, EI_sEJ, EJ_sEJ, ER_sEJ, n_sER, z_sER, tag_sER, I_sER, J_sER, R_sER, EI_sER, EJ_sER, ER_sER, n_nw, z_nw, tag_nw, I_nw, J_nw, R_nw, EI_nw, EJ_nw, ER_nw]; rfl
