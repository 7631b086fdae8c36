/-- kinds and counts within bounds -/
def fbd {α : Type} : Std.DTreeMap.Internal.Impl α (fun _ => Unit) → Prop
  | .leaf => True
  | .inner k _ _ c r => k < 16 ∧ fln c < 2147483648 ∧ fbd c ∧ fbd r
def fsm : Fo → Fo → Bool
  | .leaf, _ => true
  | .inner _ _ _ _ _, .leaf => false
  | .inner k x _ c r, .inner k' x' _ c' r' => (k == k' && fln c == fln c' && (if k < 6 then x.1 == x'.1 && x.2 == x'.2 else fsm c c')) && fsm r r'
def vsm (k k' : Nat) (x x' : Int64 × Int64) (c c' : Fo) : Bool := k == k' && fln c == fln c' && (if k < 6 then x.1 == x'.1 && x.2 == x'.2 else fsm c c')
def SameLoop (g : LF) : Prop := ∀ (g' : LF) (X : Xt) (_ : OK e_X30_isSame X) (K : Outcome → AH → Prop) (h : AH) (p p' : Option Nat) (b : Bool) (v0 v1 : Value), RF h g p → RF h g' p' → fln g = fln g' → fbd g → fbd g' → fdp g ≤ X.d → K (.returned (some (.int (bI (b && fsm (fer g) (fer g')))))) h → V X K 76 [v0, v1, va_rf p', .int (bI b), va_rf p] [] h
theorem same_of {c c' : LF} (L : SameLoop c) {G : Gt} {d a a' k k' : Nat} {x x' : Int64 × Int64} {h : AH} {K : Outcome → AH → Prop} (hv : RV h a k x c) (hw : RV h a' k' x' c') (hk : k < 16 ∧ k' < 16) (hl : fln c < 2147483648 ∧ fln c' < 2147483648) (hb : fbd c ∧ fbd c') (hd : fdp c ≤ d) (kk : K (.returned (some (.int (bI (vsm k k' x x' (fer c) (fer c')))))) h) : MW G d e_X30_isSame [.ref a, .ref a'] h K := by
  refine st_X30_isSame fun X o hG hD hf => ?_
  obtain ⟨e2, e3, e4, e5, e6, e7⟩ := hv
  obtain ⟨u2, u3, u4, u5, u6, u7⟩ := hw
  unfold vsm at kk
  rw [fer_ln, fer_ln] at kk
  refine k_X30_isSame_0 o (fun c0 => ?_) (fun c0 => ?_)
  · refine k_X30_isSame_22 o ?_
    have : (k == k') = false := by rw [beq_eq_false_iff_ne]; exact fun q => c0 (by rw [q])
    rw [this] at kk; exact kk
  have c0 := (nI_eq (by omega) (by omega)).mp c0
  subst c0
  refine k_X30_isSame_11 o (fun c1 => ?_) (fun c1 => ?_)
  rotate_left
  · refine k_X30_isSame_22 o ?_
    have : (fln c == fln c') = false := by rw [beq_eq_false_iff_ne]; exact fun q => c1 (by rw [q])
    rw [this] at kk; simp only [beq_self_eq_true, Bool.true_and, Bool.false_and] at kk; exact kk
  have c1 := (nI_eq (by omega) (by omega)).mp c1
  rw [c1] at kk
  simp only [beq_self_eq_true, Bool.true_and] at kk
  refine k_X30_isSame_24 o (fun c2 => ?_) (fun c2 => ?_)
  · have c2 := (nI_leI (by omega) (by omega)).mp c2
    rw [if_neg (by omega)] at kk
    refine k_X30_isSame_63 o ?_
    exact L c' X o K h _ _ true _ _ e7 u7 c1 hb.1 hb.2 (by omega) (by simpa using kk)
  · have c2 : ¬ (6 ≤ k) := fun q => c2 ((nI_leI (by omega) (by omega)).mpr q)
    rw [if_pos (by omega)] at kk
    refine k_X30_isSame_33 o (fun c3 => ?_) (fun c3 => ?_)
    · refine k_X30_isSame_61 o ?_
      refine k_X30_isSame_62 o ?_
      have : (x.1 == x'.1) = false := by rw [beq_eq_false_iff_ne]; exact c3
      rw [this] at kk; exact kk
    · refine k_X30_isSame_45 o (fun c4 => ?_) (fun c4 => ?_)
      · refine k_X30_isSame_61 o ?_
        refine k_X30_isSame_62 o ?_
        have : (x.2 == x'.2) = false := by rw [beq_eq_false_iff_ne]; exact c4
        rw [this] at kk; simp only [Bool.and_false] at kk; exact kk
      · refine k_X30_isSame_57 o ?_
        refine k_X30_isSame_62 o ?_
        rw [c3, c4] at kk; simp only [beq_self_eq_true, Bool.and_self] at kk; exact kk
theorem same_loop : ∀ g : LF, SameLoop g
  | .leaf => by
    intro g' X o K h p p' b v0 v1 hr hr' hl hb hb' hd kk
    cases hr
    refine k_X30_isSame_76 o (fun _ => ?_) (fun a c => nomatch c)
    refine k_X30_isSame_107 o ?_
    simpa [fer, fsm] using kk
  | .inner k x uu c r => by
    intro g' X o K h p p' b v0 v1 hr hr' hl hb hb' hd kk
    cases g' with
    | leaf => simp only [fln] at hl; omega
    | inner k' x' u' c' r' =>
      obtain ⟨e1, e2, e3, e4, e5, e6, e7, e8⟩ := hr
      obtain ⟨u1, u2, u3, u4, u5, u6, u7, u8⟩ := hr'
      subst e1; subst u1
      simp only [fdp] at hd
      simp only [fln] at hl
      obtain ⟨b1, b2, b3, b4⟩ := hb
      obtain ⟨d1, d2, d3, d4⟩ := hb'
      refine k_X30_isSame_76 o (fun c => nomatch c) (fun a c => ?_)
      cases c
      refine k_X30_isSame_81 o (fun c1 => ?_) (fun c1 => ?_)
      · have c1 := bI_0.mp c1
        subst c1
        refine k_X30_isSame_107 o ?_
        simpa using kk
      · have c1 : b = true := by cases b with
          | true => rfl
          | false => exact absurd rfl c1
        subst c1
        refine k_X30_isSame_85 o ?_
        refine same_of (c := c) (c' := c') (same_loop c) (x := x.2) (x' := x'.2) (k := k) (k' := k') ⟨e2, e3, e4, e5, e6, e7⟩ ⟨u2, u3, u4, u5, u6, u7⟩ ⟨b1, d1⟩ ⟨b2, d2⟩ ⟨b3, d3⟩ (by omega) ?_
        refine k_X30_isSame_91 o ?_
        refine same_loop r r' X o K h _ _ _ _ _ e8 u8 (by omega) b4 d4 (by omega) ?_
        simp only [fer, fsm, Bool.true_and] at kk
        exact kk
theorem isSame_ok {c c' : LF} {G : Gt} {d a a' k k' : Nat} {x x' : Int64 × Int64} {h : AH} {K : Outcome → AH → Prop} (hv : RV h a k x c) (hw : RV h a' k' x' c') (hk : k < 16 ∧ k' < 16) (hl : fln c < 2147483648 ∧ fln c' < 2147483648) (hb : fbd c ∧ fbd c') (hd : fdp c ≤ d) (kk : K (.returned (some (.int (bI (vsm k k' x x' (fer c) (fer c')))))) h) : MW G d e_X30_isSame [.ref a, .ref a'] h K := same_of (same_loop c) hv hw hk hl hb hd kk
/-- coins within: of a structure of module 0 the first part's number -/
def fcn : Fo → Int64
  | .leaf => 0
  | .inner k x _ c r => (if k = 6 ∧ x.1 = 0 then (match c with | .inner _ y _ _ _ => y.2 | .leaf => 0) else fcn c) + fcn r
def vcn (k : Nat) (x : Int64 × Int64) (c : Fo) : Int64 := if k = 6 ∧ x.1 = 0 then (match c with | .inner _ y _ _ _ => y.2 | .leaf => 0) else fcn c
/-- a structure of module 0 has a part -/
def fck : Fo → Prop
  | .leaf => True
  | .inner k x _ c r => k < 16 ∧ (k = 6 ∧ x.1 = 0 → c ≠ .leaf) ∧ fck c ∧ fck r
def CoinLoop (g : LF) : Prop := ∀ (X : Xt) (_ : OK e_X30_coins X) (K : Outcome → AH → Prop) (h : AH) (p : Option Nat) (n : Int64) (v0 : Value), RF h g p → fck (fer g) → fdp g ≤ X.d → K (.returned (some (.long (n + fcn (fer g))))) h → V X K 33 [v0, .long n, nov, va_rf p] [] h
theorem coins_of {c : LF} (L : CoinLoop c) {G : Gt} {d a k : Nat} {x : Int64 × Int64} {h : AH} {K : Outcome → AH → Prop} (hv : RV h a k x c) (hk : k < 16) (hc : k = 6 ∧ x.1 = 0 → fer c ≠ .leaf) (hb : fck (fer c)) (hd : fdp c ≤ d) (kk : K (.returned (some (.long (vcn k x (fer c))))) h) : MW G d e_X30_coins [.ref a] h K := by
  refine st_X30_coins fun X o hG hD hf => ?_
  obtain ⟨e2, e3, e4, e5, e6, e7⟩ := hv
  unfold vcn at kk
  have els : ¬ (k = 6 ∧ x.1 = 0) → V X K 26 [.ref a, nov, nov, nov] [] h := fun hne => by
    rw [if_neg hne] at kk
    refine k_X30_coins_26 o ?_
    refine L X o K h _ 0 _ e7 hb (by omega) ?_
    rw [Int64.zero_add]; exact kk
  refine k_X30_coins_0 o (fun c0 => ?_) (fun c0 => ?_)
  · exact els fun q => c0 (by rw [q.1])
  · have c0 := (nI_eq (b := 6) (by omega) (by omega)).mp c0
    refine k_X30_coins_9 o (fun c1 => ?_) (fun c1 => ?_)
    · exact els fun q => c1 q.2
    · rw [if_pos ⟨c0, c1⟩] at kk
      have hne := hc ⟨c0, c1⟩
      cases c with
      | leaf => exact absurd rfl hne
      | inner k2 y u2 c2 r2 =>
        obtain ⟨f1, f2, f3, f4, f5, f6, f7, f8⟩ := e7
        refine k_X30_coins_18 o ?_
        exact kk
theorem coins_loop : ∀ g : LF, CoinLoop g
  | .leaf => by
    intro X o K h p n v0 hr hb hd kk
    cases hr
    refine k_X30_coins_33 o (fun _ => ?_) (fun a c => nomatch c)
    refine k_X30_coins_52 o ?_
    simpa [fer, fcn] using kk
  | .inner k x uu c r => by
    intro X o K h p n v0 hr hb hd kk
    obtain ⟨e1, e2, e3, e4, e5, e6, e7, e8⟩ := hr
    subst e1
    simp only [fdp] at hd
    obtain ⟨b1, b2, b3, b4⟩ := hb
    refine k_X30_coins_33 o (fun c => nomatch c) (fun a c => ?_)
    cases c
    refine k_X30_coins_37 o ?_
    refine coins_of (c := c) (coins_loop c) (k := k) (x := x.2) ⟨e2, e3, e4, e5, e6, e7⟩ b1 b2 b3 (by omega) ?_
    refine k_X30_coins_42 o ?_
    refine coins_loop r X o K h _ _ _ e8 b4 (by omega) ?_
    simp only [fer, fcn] at kk
    rw [Int64.add_assoc]; exact kk
theorem coins_ok {c : LF} {G : Gt} {d a k : Nat} {x : Int64 × Int64} {h : AH} {K : Outcome → AH → Prop} (hv : RV h a k x c) (hk : k < 16) (hc : k = 6 ∧ x.1 = 0 → fer c ≠ .leaf) (hb : fck (fer c)) (hd : fdp c ≤ d) (kk : K (.returned (some (.long (vcn k x (fer c))))) h) : MW G d e_X30_coins [.ref a] h K := coins_of (coins_loop c) hv hk hc hb hd kk
