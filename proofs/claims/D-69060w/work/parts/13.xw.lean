/-! wps with named reads, in a form for generated block rows -/
theorem Snd.imp {E : Et} {a b : Nat} {w w' : Sm} (h : Snd E a w b) (hi : ∀ G d wd nx jp K L st h, w' G d wd nx jp K L st h → w G d wd nx jp K L st h) : Snd E a w' b := fun X o nx jp K k1 k2 L st hh hw => h X o nx jp K k1 k2 L st hh (hi _ _ _ _ _ _ _ _ _ hw)
def IX (i : Int32) (len k : Nat) : Prop := vp_in i len ∧ i.toNatClampNeg = k
theorem IX.mk {k len : Nat} (h : k < len) (hl : len ≤ 2147483648) : IX (nI k) len k := by
  have hk : k < 2 ^ 31 := by have : (2 : Nat) ^ 31 = 2147483648 := rfl; omega
  refine ⟨?_, nI_clamp hk⟩
  intro q
  rcases q with q | q
  · exact nI_pos hk q
  · rw [nI_clamp hk] at q; omega
theorem IX.lt {i : Int32} {len k : Nat} (h : IX i len k) : k < len := by
  obtain ⟨a, b⟩ := h
  rw [← b]; exact Nat.not_le.mp fun q => a (Or.inr q)
theorem nI_mul (a b : Nat) : nI a * nI b = nI (a * b) := (Int32.ofNat_mul a b).symm
def x_gI (t f : Nat) : Sm := fun _ _ _ nx _ _ L st h => match st with
  | .ref a :: r => h.tag a = some (t, 0) ∧ ∃ x, h.I f a = x ∧ nx L (.int x :: r) h
  | _ => False
def x_gJ (t f : Nat) : Sm := fun _ _ _ nx _ _ L st h => match st with
  | .ref a :: r => h.tag a = some (t, 0) ∧ ∃ x, h.J f a = x ∧ nx L (.long x :: r) h
  | _ => False
def x_gR (t f : Nat) : Sm := fun _ _ _ nx _ _ L st h => match st with
  | .ref a :: r => h.tag a = some (t, 0) ∧ ∃ x, h.R f a = x ∧ nx L (va_rf x :: r) h
  | _ => False
theorem i_gI {t f : Nat} : ∀ G d wd nx jp K L st h, x_gI t f G d wd nx jp K L st h → w_gI t f G d wd nx jp K L st h := by
  intro G d wd nx jp K L st h hw
  unfold x_gI at hw; unfold w_gI
  split at hw
  · obtain ⟨a, x, rfl, b⟩ := hw; exact ⟨a, b⟩
  · exact hw.elim
theorem i_gJ {t f : Nat} : ∀ G d wd nx jp K L st h, x_gJ t f G d wd nx jp K L st h → w_gJ t f G d wd nx jp K L st h := by
  intro G d wd nx jp K L st h hw
  unfold x_gJ at hw; unfold w_gJ
  split at hw
  · obtain ⟨a, x, rfl, b⟩ := hw; exact ⟨a, b⟩
  · exact hw.elim
theorem i_gR {t f : Nat} : ∀ G d wd nx jp K L st h, x_gR t f G d wd nx jp K L st h → w_gR t f G d wd nx jp K L st h := by
  intro G d wd nx jp K L st h hw
  unfold x_gR at hw; unfold w_gR
  split at hw
  · obtain ⟨a, x, rfl, b⟩ := hw; exact ⟨a, b⟩
  · exact hw.elim
def x_iald : Sm := fun _ _ _ nx _ _ L st h => match st with
  | .int i :: .ref a :: r => ∃ t len k x, h.tag a = some (t, len) ∧ (64 ≤ t ∧ t % 16 = 0) ∧ IX i len k ∧ h.EI t a k = x ∧ nx L (.int x :: r) h
  | _ => False
def x_bald : Sm := fun _ _ _ nx _ _ L st h => match st with
  | .int i :: .ref a :: r => ∃ t len k x, h.tag a = some (t, len) ∧ (64 ≤ t ∧ (t % 16 = 1 ∨ t % 16 = 2)) ∧ IX i len k ∧ h.EI t a k = x ∧ nx L (.int x :: r) h
  | _ => False
def x_lald : Sm := fun _ _ _ nx _ _ L st h => match st with
  | .int i :: .ref a :: r => ∃ t len k x, h.tag a = some (t, len) ∧ (64 ≤ t ∧ t % 16 = 3) ∧ IX i len k ∧ h.EJ t a k = x ∧ nx L (.long x :: r) h
  | _ => False
def x_aald : Sm := fun _ _ _ nx _ _ L st h => match st with
  | .int i :: .ref a :: r => ∃ t len k x, h.tag a = some (t, len) ∧ (64 ≤ t ∧ 4 ≤ t % 16 ∧ t % 16 < 13) ∧ IX i len k ∧ h.ER t a k = x ∧ nx L (va_rf x :: r) h
  | _ => False
theorem i_iald : ∀ G d wd nx jp K L st h, x_iald G d wd nx jp K L st h → w_iald G d wd nx jp K L st h := by
  intro G d wd nx jp K L st h hw
  unfold x_iald at hw; unfold w_iald
  split at hw
  · obtain ⟨t, len, k, x, e1, e2, e3, rfl, b⟩ := hw
    obtain ⟨e3, rfl⟩ := e3
    simp only [e1]; exact ⟨⟨e2, e3⟩, b⟩
  · exact hw.elim
theorem i_bald : ∀ G d wd nx jp K L st h, x_bald G d wd nx jp K L st h → w_bald G d wd nx jp K L st h := by
  intro G d wd nx jp K L st h hw
  unfold x_bald at hw; unfold w_bald
  split at hw
  · obtain ⟨t, len, k, x, e1, e2, e3, rfl, b⟩ := hw
    obtain ⟨e3, rfl⟩ := e3
    simp only [e1]; exact ⟨⟨e2, e3⟩, b⟩
  · exact hw.elim
theorem i_lald : ∀ G d wd nx jp K L st h, x_lald G d wd nx jp K L st h → w_lald G d wd nx jp K L st h := by
  intro G d wd nx jp K L st h hw
  unfold x_lald at hw; unfold w_lald
  split at hw
  · obtain ⟨t, len, k, x, e1, e2, e3, rfl, b⟩ := hw
    obtain ⟨e3, rfl⟩ := e3
    simp only [e1]; exact ⟨⟨e2, e3⟩, b⟩
  · exact hw.elim
theorem i_aald : ∀ G d wd nx jp K L st h, x_aald G d wd nx jp K L st h → w_aald G d wd nx jp K L st h := by
  intro G d wd nx jp K L st h hw
  unfold x_aald at hw; unfold w_aald
  split at hw
  · obtain ⟨t, len, k, x, e1, e2, e3, rfl, b⟩ := hw
    obtain ⟨e3, rfl⟩ := e3
    simp only [e1]; exact ⟨⟨e2, e3⟩, b⟩
  · exact hw.elim
def x_iast : Sm := fun _ _ _ nx _ _ L st h => match st with
  | .int x :: .int i :: .ref a :: r => ∃ t len k, h.tag a = some (t, len) ∧ (64 ≤ t ∧ t < 4096 ∧ t % 16 = 0) ∧ IX i len k ∧ nx L r (h.sEI t a k x)
  | _ => False
def x_byast : Sm := fun _ _ _ nx _ _ L st h => match st with
  | .int x :: .int i :: .ref a :: r => ∃ t len k, h.tag a = some (t, len) ∧ (64 ≤ t ∧ t < 4096 ∧ t % 16 = 1) ∧ IX i len k ∧ nx L r (h.sEI t a k x.toInt8.toInt32)
  | _ => False
def x_zast : Sm := fun _ _ _ nx _ _ L st h => match st with
  | .int x :: .int i :: .ref a :: r => ∃ t len k, h.tag a = some (t, len) ∧ (64 ≤ t ∧ t < 4096 ∧ t % 16 = 2) ∧ (x = 0 ∨ x = 1) ∧ IX i len k ∧ nx L r (h.sEI t a k x)
  | _ => False
def x_last : Sm := fun _ _ _ nx _ _ L st h => match st with
  | .long x :: .int i :: .ref a :: r => ∃ t len k, h.tag a = some (t, len) ∧ (64 ≤ t ∧ t < 4096 ∧ t % 16 = 3) ∧ IX i len k ∧ nx L r (h.sEJ t a k x)
  | _ => False
def x_aast : Sm := fun _ _ _ nx _ _ L st h => match st with
  | v :: .int i :: .ref a :: r => ∃ t len k, h.tag a = some (t, len) ∧ (64 ≤ t ∧ t < 4096 ∧ 4 ≤ t % 16 ∧ t % 16 < 13) ∧ IX i len k ∧ isR v = true ∧ fitE h (t % 16) (rfo v) ∧ nx L r (h.sER t a k (rfo v))
  | _ => False
theorem i_iast : ∀ G d wd nx jp K L st h, x_iast G d wd nx jp K L st h → w_iast G d wd nx jp K L st h := by
  intro G d wd nx jp K L st h hw
  unfold x_iast at hw; unfold w_iast
  split at hw
  · obtain ⟨t, len, k, e1, e2, e3, b⟩ := hw
    obtain ⟨e3, rfl⟩ := e3
    simp only [e1]; exact ⟨⟨e2, e3⟩, b⟩
  · exact hw.elim
theorem i_byast : ∀ G d wd nx jp K L st h, x_byast G d wd nx jp K L st h → w_bast G d wd nx jp K L st h := by
  intro G d wd nx jp K L st h hw
  unfold x_byast at hw; unfold w_bast
  split at hw
  · obtain ⟨t, len, k, e1, ⟨e2, e2', e2''⟩, e3, b⟩ := hw
    obtain ⟨e3, rfl⟩ := e3
    simp only [e1]; rw [if_pos e2'']; exact ⟨⟨⟨e2, e2', Or.inl e2''⟩, e3⟩, b⟩
  · exact hw.elim
theorem i_zast : ∀ G d wd nx jp K L st h, x_zast G d wd nx jp K L st h → w_bast G d wd nx jp K L st h := by
  intro G d wd nx jp K L st h hw
  unfold x_zast at hw; unfold w_bast
  split at hw
  · obtain ⟨t, len, k, e1, ⟨e2, e2', e2''⟩, e4, e3, b⟩ := hw
    obtain ⟨e3, rfl⟩ := e3
    simp only [e1]; rw [if_neg (by omega)]; exact ⟨⟨⟨e2, e2', Or.inr ⟨e2'', e4⟩⟩, e3⟩, b⟩
  · exact hw.elim
theorem i_last : ∀ G d wd nx jp K L st h, x_last G d wd nx jp K L st h → w_last G d wd nx jp K L st h := by
  intro G d wd nx jp K L st h hw
  unfold x_last at hw; unfold w_last
  split at hw
  · obtain ⟨t, len, k, e1, e2, e3, b⟩ := hw
    obtain ⟨e3, rfl⟩ := e3
    simp only [e1]; exact ⟨⟨e2, e3⟩, b⟩
  · exact hw.elim
theorem i_aast : ∀ G d wd nx jp K L st h, x_aast G d wd nx jp K L st h → w_aast G d wd nx jp K L st h := by
  intro G d wd nx jp K L st h hw
  unfold x_aast at hw; unfold w_aast
  split at hw
  · obtain ⟨t, len, k, e1, e2, e3, e4, e5, b⟩ := hw
    obtain ⟨e3, rfl⟩ := e3
    simp only [e1]; exact ⟨⟨e2, e3, e4, e5⟩, b⟩
  · exact hw.elim
def x_alen : Sm := fun _ _ _ nx _ _ L st h => match st with
  | .ref a :: r => ∃ t len, h.tag a = some (t, len) ∧ (64 ≤ t ∧ t % 16 < 13) ∧ nx L (.int (nI len) :: r) h
  | _ => False
theorem i_alen : ∀ G d wd nx jp K L st h, x_alen G d wd nx jp K L st h → w_alen G d wd nx jp K L st h := by
  intro G d wd nx jp K L st h hw
  unfold x_alen at hw; unfold w_alen
  split at hw
  · obtain ⟨t, len, e1, e2, b⟩ := hw
    simp only [e1]; exact ⟨e2, b⟩
  · exact hw.elim
/-- the target of a switch -/
def swt (lo : Int) (ts : List Nat) (df : Nat) (x : Int32) : Nat := if x.toInt < lo then df else ts.getD (x.toInt - lo).toNat df
def x_tsw (lo : Int) (ts : List Nat) (df : Nat) : Sm := fun _ _ _ _ jp _ L st h => match st with
  | .int x :: r => jp (swt lo ts df x) L r h
  | _ => False
theorem i_tsw {lo : Int} {ts : List Nat} {df : Nat} : ∀ G d wd nx jp K L st h, x_tsw lo ts df G d wd nx jp K L st h → w_tsw lo ts df G d wd nx jp K L st h := by
  intro G d wd nx jp K L st h hw
  unfold x_tsw at hw; unfold w_tsw
  split at hw
  · next x r =>
    refine ⟨fun i t e1 e2 => ?_, fun e1 => ?_⟩
    · have : swt lo ts df x = t := by
        unfold swt
        rw [if_neg (by omega), e2, show (lo + i - lo).toNat = i by omega, List.getD_eq_getElem?_getD, e1]; rfl
      rw [this] at hw; exact hw
    · have : swt lo ts df x = df := by
        unfold swt
        split
        · rfl
        · rw [List.getD_eq_getElem?_getD, List.getElem?_eq_none (by omega)]; rfl
      rw [this] at hw; exact hw
  · exact hw.elim
def x_newa (t : Nat) : Sm := fun G _ _ nx _ _ L st h => match st with
  | .int n :: r => ∃ k, n = nI k ∧ (64 ≤ t ∧ t < 4096) ∧ (k ≤ 65536 ∧ h.n + 1 ≤ G.ln ∧ h.z + k ≤ G.ls) ∧ nx L (.ref h.n :: r) (h.nw t k k)
  | _ => False
theorem i_newa {t : Nat} : ∀ G d wd nx jp K L st h, x_newa t G d wd nx jp K L st h → w_newa t G d wd nx jp K L st h := by
  intro G d wd nx jp K L st h hw
  unfold x_newa at hw; unfold w_newa
  split at hw
  · obtain ⟨k, rfl, e1, ⟨e2, e3, e4⟩, b⟩ := hw
    have hk : k < 2 ^ 31 := by omega
    have e : (nI k).toNatClampNeg = k := nI_clamp hk
    show ((64 ≤ t ∧ t < 4096) ∧ ¬ nI k < 0 ∧ (nI k).toNatClampNeg ≤ 65536 ∧ h.n + 1 ≤ G.ln ∧ h.z + (nI k).toNatClampNeg ≤ G.ls) ∧ nx L (.ref h.n :: _) (h.nw t (nI k).toNatClampNeg (nI k).toNatClampNeg)
    simp only [e]
    exact ⟨⟨e1, nI_pos hk, e2, e3, e4⟩, b⟩
  · exact hw.elim
theorem i_anew {t : Nat} : ∀ G d wd nx jp K L st h, x_newa t G d wd nx jp K L st h → w_anew t G d wd nx jp K L st h := i_newa
theorem cat_le (v : Value) : v.category ≤ 2 := by cases v <;> exact Nat.le_of_ble_eq_true rfl
theorem sumcat : ∀ l : List Value, (l.map fun v => v.category).sum ≤ 2 * l.length
  | [] => Nat.le_refl _
  | v :: l => by
    have := sumcat l
    have := cat_le v
    simp only [List.map_cons, List.sum_cons, List.length_cons]; omega
theorem sumcat24 (l : List Value) (h : Nat.ble l.length 12 = true) : (l.map fun v => v.category).sum ≤ 24 := Nat.le_trans (sumcat l) (by have := Nat.le_of_ble_eq_true h; omega)
theorem cat_R {v : Value} (h : isR v = true) : v.category = 1 := by cases v <;> first | rfl | exact absurd h Bool.false_ne_true
theorem cat_rf (p : Option Nat) : (va_rf p).category = 1 := cat_R (isR_rf p)
theorem lgc_eq {x y : Int64} : lg_cmp x y = 0 ↔ x = y := by
  unfold lg_cmp
  by_cases h1 : x > y
  · rw [if_pos h1]
    constructor
    · intro q; exact absurd q (by decide)
    · intro q; subst q; exact absurd h1 (Int64.lt_irrefl (a := x))
  · rw [if_neg h1]
    by_cases h2 : x = y
    · rw [if_pos h2]; exact ⟨fun _ => h2, fun _ => rfl⟩
    · rw [if_neg h2]; exact ⟨fun q => absurd q (by decide), fun q => absurd q h2⟩
theorem lgc_gt {x y : Int64} : 0 < lg_cmp x y ↔ y < x := by
  unfold lg_cmp
  by_cases h1 : x > y
  · rw [if_pos h1]; exact ⟨fun _ => h1, fun _ => by decide⟩
  · rw [if_neg h1]
    refine ⟨fun q => ?_, fun q => absurd q h1⟩
    split at q <;> exact absurd q (by decide)
theorem lgc_lt {x y : Int64} : lg_cmp x y < 0 ↔ x < y := by
  unfold lg_cmp
  by_cases h1 : x > y
  · rw [if_pos h1]
    exact ⟨fun q => absurd q (by decide), fun q => absurd q (Int64.lt_asymm h1)⟩
  · rw [if_neg h1]
    by_cases h2 : x = y
    · rw [if_pos h2]
      refine ⟨fun q => absurd q (by decide), fun q => ?_⟩
      subst h2; exact absurd q (Int64.lt_irrefl (a := x))
    · rw [if_neg h2]
      refine ⟨fun _ => ?_, fun _ => by decide⟩
      rcases Int64.lt_or_eq_of_le (Int64.not_lt.mp h1) with q | q
      · exact q
      · exact absurd q h2
theorem i32_nlt {x y : Int32} : ¬ x < y ↔ y ≤ x := Int32.not_lt
theorem lgc_ge {x y : Int64} : 0 ≤ lg_cmp x y ↔ y ≤ x := by rw [← Int32.not_lt, lgc_lt, Int64.not_lt]
theorem lgc_le {x y : Int64} : lg_cmp x y ≤ 0 ↔ x ≤ y := by rw [← Int32.not_lt, lgc_gt, Int64.not_lt]
/-- a loop: by a measure that falls -/
theorem V.loop {X : Xt} {K : Outcome → AH → Prop} {pc : Nat} (I : Nat → List Value → AH → Prop)
    (step : ∀ n L h, I n L h → (∀ m, m < n → ∀ L' h', I m L' h' → V X K pc L' [] h') → V X K pc L [] h) : ∀ n L h, I n L h → V X K pc L [] h := by
  intro n
  induction n using Nat.strongRecOn with
  | ind n ih => exact fun L h hi => step n L h hi fun m hm L' h' hi' => ih m hm L' h' hi'
theorem I_same (h : AH) (f a : Nat) (v : Int32) : (h.sI f a v).I f a = v := if_pos ⟨rfl, rfl⟩
theorem J_same (h : AH) (f a : Nat) (v : Int64) : (h.sJ f a v).J f a = v := if_pos ⟨rfl, rfl⟩
theorem R_same (h : AH) (f a : Nat) (v : Option Nat) : (h.sR f a v).R f a = v := if_pos ⟨rfl, rfl⟩
theorem EI_same (h : AH) (f a i : Nat) (v : Int32) : (h.sEI f a i v).EI f a i = v := if_pos ⟨rfl, rfl, rfl⟩
theorem EJ_same (h : AH) (f a i : Nat) (v : Int64) : (h.sEJ f a i v).EJ f a i = v := if_pos ⟨rfl, rfl, rfl⟩
theorem ER_same (h : AH) (f a i : Nat) (v : Option Nat) : (h.sER f a i v).ER f a i = v := if_pos ⟨rfl, rfl, rfl⟩
def bI (b : Bool) : Int32 := if b then 1 else 0
theorem bI_or (b : Bool) : bI b = 0 ∨ bI b = 1 := by cases b <;> simp [bI]
theorem bI_0 {b : Bool} : bI b = 0 ↔ b = false := by cases b <;> simp [bI]
theorem bI_1 {b : Bool} : bI b = 1 ↔ b = true := by cases b <;> simp [bI]
theorem rfo_ref (a : Nat) : rfo (.ref a) = some a := rfl
theorem rfo_null : rfo .null = none := rfl
theorem V.fr {X : Xt} {K : Outcome → AH → Prop} {pc : Nat} {L st : List Value} {h : AH} (k : FR h → V X K pc L st h) : V X K pc L st h := fun H locs cells slots ls h1 => k h1.2.2.2.2.1 H locs cells slots ls h1
theorem FR.lt {h : AH} (f : FR h) {a : Nat} {x : Nat × Nat} (ht : h.tag a = some x) : a < h.n := by
  rcases Nat.lt_or_ge a h.n with q | q
  · exact q
  · rw [(f a q).1] at ht; cases ht
def x_pR (t f : Nat) : Sm := fun _ _ _ nx _ _ L st h => match st with
  | v :: .ref a :: r => ∃ p, (h.tag a = some (t, 0) ∧ va_rf p = v) ∧ nx L r (h.sR f a p)
  | _ => False
theorem i_pR {t f : Nat} : ∀ G d wd nx jp K L st h, x_pR t f G d wd nx jp K L st h → w_pR t f G d wd nx jp K L st h := by
  intro G d wd nx jp K L st h hw
  unfold x_pR at hw; unfold w_pR
  split at hw
  · obtain ⟨p, ⟨e1, rfl⟩, b⟩ := hw
    exact ⟨⟨e1, isR_rf p⟩, by rw [rfo_rf]; exact b⟩
  · exact hw.elim
def x_aastp : Sm := fun _ _ _ nx _ _ L st h => match st with
  | v :: .int i :: .ref a :: r => ∃ t len k p, h.tag a = some (t, len) ∧ (64 ≤ t ∧ t < 4096 ∧ 4 ≤ t % 16 ∧ t % 16 < 13) ∧ IX i len k ∧ va_rf p = v ∧ fitE h (t % 16) p ∧ nx L r (h.sER t a k p)
  | _ => False
theorem i_aastp : ∀ G d wd nx jp K L st h, x_aastp G d wd nx jp K L st h → w_aast G d wd nx jp K L st h := by
  intro G d wd nx jp K L st h hw
  refine i_aast G d wd nx jp K L st h ?_
  unfold x_aastp at hw; unfold x_aast
  split at hw
  · obtain ⟨t, len, k, p, e1, e2, e3, rfl, e5, b⟩ := hw
    exact ⟨t, len, k, e1, e2, e3, isR_rf p, by rw [rfo_rf]; exact e5, by rw [rfo_rf]; exact b⟩
  · exact hw.elim
theorem MW.startF {G : Gt} {d : Nat} {M : Et} {as : List Value} {h : AH} {K : Outcome → AH → Prop} (hy : plainFor M.y = true) (hl : (lay as).length ≤ M.ml) (hw : lwd M.wd 0 as = true)
    (body : ∀ X : Xt, OK M X → X.G = G → X.d = d → V X K 0 (lay0 M.ml as) [] h) : MW G d M as h K := by
  refine MetFree.of_bodySF (code := M.cc) (maxLocals := M.ml) (ret := M.ret) hy ?_ ?_
  · intro args s m hp hn
    obtain ⟨meth, c, a1, a2, a3, a4, a5, a6, -⟩ := cw_spec hn (atoms_spec (ws := cw M :: lw_all) hp _ List.mem_cons_self)
    exact ⟨meth, c, a1, a2, a3, a4, a5, a6⟩
  · intro p e s m args below meth c s₁ B hml hP _
    obtain ⟨rfl, hH, hK⟩ := hP
    have hpre := atoms_spec (ws := cw M :: lw_all) B.pre
    obtain ⟨meth', c', b1, b2, -, -, -, -, b7, -⟩ := cw_spec B.named (hpre _ List.mem_cons_self)
    cases B.method.symm.trans b1
    cases (Stand.of_body B).code.symm.trans b2
    have hh0 : s₁.heap = s.heap := by rw [B.state]; rfl
    let X : Xt := (G, p, e, rm_ G d h, s, m, as.toArray, below, meth, c, h.n, h.z, d, M.wd)
    have hO : OK M X := by
      refine ⟨⟨B.exec, B.bytes, hml, B.returns, B.notSynchronized, (name_of_methodNamed B.named B.method).1, rfl⟩, ⟨findClass_of_methodNamed B.named, fun w hw => hpre w (List.mem_cons_of_mem _ hw), hK, b7⟩, Nat.le_refl _, Nat.le_refl _, ?_, ?_⟩
      · show G.ln ≤ h.n + (G.ln - h.n); omega
      · show G.ls ≤ h.z + (G.ls - h.z); omega
    have hv := body X hO rfl rfl s.heap [] 0 0 ((lg_sl as ++ List.replicate (M.ml - (lg_sl as).length) Slot.unset).toArray) hH (by show LX M.wd c.maxLocals _ _; rw [hml]; exact LX.entry hl hw) (fun _ q => by cases q) (Nat.zero_add _) (Nat.zero_add _)
    obtain ⟨t, c1, o, c2, c3, c4, h', L, k, n, c5, c6, c7, c8, c9, c10⟩ := hv s₁ hh0 (Stand.of_body B)
    refine ⟨t, o, ?_, c2, c3, c4, h', L, k, n, c5, c6, c7, c8, c9, c10⟩
    rw [lg_entry_eq]
    exact c1
theorem v_ineg {E : Et} {X : Xt} (o : OK E X) {K : Outcome → AH → Prop} {pc : Nat} {L r : List Value} {h : AH} {x : Int32} (hd : decode E.cc pc = .ok (.ineg, 1)) (H : V X K (pc + 1) L (.int (-x) :: r) h) : V X K pc L (.int x :: r) h :=
  fun H' locs cells slots ls h1 h2 h3 h4 h5 => lv_ineg o.1.1 o.1.2.1 hd (H H' locs cells slots ls h1 h2 h3 h4 h5)
theorem LX.st2p {wd : List Nat} {ml : Nat} {ls ls' : Array Slot} {L : List Value} {i : Nat} {v : Value} (h : LX wd ml ls L) (hwd : wd.contains i = true) (hp : ∀ j w, j + 1 = i → L[j]? = some w → w.category ≠ 2)
    (h' : lv_has ls' L.length ((i, v) :: (asc L).filter (fun q => !(q.1 == i) && (!(q.1 == i + 1) && !(q.1 + 1 == i && q.2.category == 2))))) : LX wd ml ls' ((L.set (i + 1) nov).set i v) := by
  have at_ : ∀ j w, ((L.set (i + 1) nov).set i v)[j]? = some w → w ≠ nov → (j = i ∧ w = v) ∨ (j ≠ i ∧ j ≠ i + 1 ∧ L[j]? = some w) := by
    intro j w hj hw
    by_cases e : j = i
    · subst e; exact Or.inl ⟨rfl, set_is hj⟩
    · rw [List.getElem?_set_ne (Ne.symm e)] at hj
      by_cases e1 : j = i + 1
      · subst e1; exact absurd (set_is hj) hw
      · rw [List.getElem?_set_ne (Ne.symm e1)] at hj
        exact Or.inr ⟨e, e1, hj⟩
  refine ⟨⟨?_, fun j w hj hw => ?_⟩, by simp [h.2]⟩
  · rw [show ((L.set (i + 1) nov).set i v).length = L.length by simp]
    refine h'.of fun q hq => ?_
    obtain ⟨j, w⟩ := q
    obtain ⟨h1, h2⟩ := mem_asc.mp hq
    rcases at_ j w h1 h2 with ⟨e1, e2⟩ | ⟨e1, e0, e2⟩
    · subst e1; subst e2; exact List.mem_cons_self
    · refine List.mem_cons_of_mem _ (List.mem_filter.mpr ⟨mem_asc.mpr ⟨e2, h2⟩, ?_⟩)
      simp only [Bool.and_eq_true, Bool.not_eq_true', beq_eq_false_iff_ne, ne_eq, Bool.and_eq_false_iff]
      refine ⟨e1, e0, ?_⟩
      by_cases q1 : j + 1 = i
      · exact Or.inr (hp j w q1 e2)
      · exact Or.inl q1
  · have hwn : w ≠ nov := fun e => by rw [e, nov_cat] at hw; cases hw
    rcases at_ j w hj hwn with ⟨e1, e2⟩ | ⟨e1, e0, e2⟩
    · subst e1; exact hwd
    · exact h.1.2 j w e2 hw
theorem v_lsp {E : Et} {X : Xt} (o : OK E X) {K : Outcome → AH → Prop} {pc j : Nat} {L r : List Value} {h : AH} {i : Fin 4} {x : Int64} {y : Int32} {L2 : List Value} (hd : decode E.cc pc = .ok (.lstore_n i, 1)) (hi : Nat.ble (i.val + 1 + 1) L.length = true) (hw : E.wd.contains i.val = true) (hj : j + 1 = i.val ∧ L[j]? = some (.int y)) (hl : (L.set (i.val + 1) nov).set i.val (.long x) = L2) (H : V X K (pc + 1) L2 r h) : V X K pc L (.long x :: r) h := by
  subst hl
  intro H' locs cells slots ls h1 h2 h3 h4 h5
  refine lv_lstore_n o.1.1 o.1.2.1 hd rfl h2.1.1 (Nat.le_of_ble_eq_true hi) rfl fun ls' h' => H H' locs cells slots ls' h1 (h2.st2p (by rw [o.1.2.2.2.2.2.2]; exact hw) (fun j' w e1 e2 => ?_) h') h3 h4 h5
  have : j' = j := by omega
  subst this
  rw [hj.2] at e2; cases e2; exact (show (1 : Nat) ≠ 2 by decide)
