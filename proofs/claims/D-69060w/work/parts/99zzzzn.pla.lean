/-! the root: one place is planted -/
theorem i8_b {x y : Int32} (h : x &&& nI 255 = y &&& nI 255) : i8 x = i8 y := by
  have key : ∀ z : Int32, z.toInt8 = (z &&& nI 255).toInt8 := fun z => by
    apply Int8.toBitVec_inj.mp
    rw [Int32.toBitVec_toInt8, Int32.toBitVec_toInt8, BitVec.signExtend_eq_setWidth_of_le _ (by decide), BitVec.signExtend_eq_setWidth_of_le _ (by decide)]
    apply BitVec.eq_of_toNat_eq
    rw [BitVec.toNat_setWidth, BitVec.toNat_setWidth]
    have : (z &&& nI 255).toBitVec.toNat = um z % 256 := by
      show um (z &&& nI 255) = _
      rw [um_and, um_n (by decide), show (255 : Nat) = 2 ^ 8 - 1 from rfl, Nat.and_two_pow_sub_one_eq_mod]
    rw [this]
    show um z % 2 ^ 8 = um z % 256 % 2 ^ 8
    omega
  unfold i8
  rw [key x, key y, h]
theorem i8_by {x : Int32} {b : Nat} (hb : b < 256) (h : x &&& nI 255 = nI b) : i8 x = i8 (nI b) := i8_b (by
  rw [h]
  exact um_inj (by rw [um_and, um_n (by omega), um_n (by decide), show (255 : Nat) = 2 ^ 8 - 1 from rfl, Nat.and_two_pow_sub_one_eq_mod]; omega))
/-- a place's own bytes -/
def keyQ (p : Pc) : List Int32 := [i8 (nI p.1)] ++ ((if p.1 = 2 then [] else nb p.2.1 8) ++ ((if p.1 = 1 then [] else [i8 ((if p.1 = 2 then p.2.1.toInt32 else nI p.2.2 >>> (nI 8 &&& 31)) >>> (nI 8 &&& 31)), i8 (if p.1 = 2 then p.2.1.toInt32 else nI p.2.2 >>> (nI 8 &&& 31))]) ++ if p.1 = 3 then [i8 (nI p.2.2)] else []))
def byD (b : By) : List Int32 := (List.range b.1).map fun i => i8 (nI (b.2 i))
def valQ (Wb : Nat → By) (x : Pc × Cn × Bool) : List Int32 := if x.1.1 = 2 then byD (Wb (un x.1.2.1)) else if x.1.1 = 1 then nb x.2.1.2.1 8 ++ nb x.2.1.2.2.1 8 else match x.2.1.2.2.2 with
  | some v => vwB v
  | none => []
def entQ (Wb : Nat → By) (x : Pc × Cn × Bool) : F4 × F4 := (q4 (keyQ x.1), q4 (valQ Wb x))
def plF : List Nat := dgF ++ thF ++ shF
theorem plF.d {f a : Nat} (z : FS dgF f a) : FS plF f a := by
  unfold FS at z ⊢
  rw [List.contains_iff_mem] at z ⊢
  exact List.mem_append_left _ (List.mem_append_left _ z)
theorem plF.t {f a : Nat} (z : FS thF f a) : FS plF f a := by
  unfold FS at z ⊢
  rw [List.contains_iff_mem] at z ⊢
  exact List.mem_append_left _ (List.mem_append_right _ z)
theorem plF.s {f a : Nat} (z : FS shF f a) : FS plF f a := by
  unfold FS at z ⊢
  rw [List.contains_iff_mem] at z ⊢
  exact List.mem_append_right _ z
/-- an entry of the state, as it is planted -/
def ENP (h : AH) (EA : Nat) (Wb : Nat → By) (x : Pc × Cn × Bool) : Prop := (h.tag EA = some (9, 0) ∧ h.I 1152 EA = nI x.1.1 ∧ h.J 1153 EA = x.1.2.1 ∧ h.I 1154 EA = nI x.1.2.2) ∧ (h.J 1156 EA = x.2.1.2.1 ∧ h.J 1157 EA = x.2.1.2.2.1) ∧ (1 ≤ x.1.1 ∧ x.1.1 < 4) ∧ (x.1.1 = 2 → ∃ M, h.R 1158 EA = some M ∧ (h.tag M = some (1, 0) ∧ h.R 129 M = some (M + 525) ∧ h.tag (M + 525) = some (177, 2048)) ∧ BYR h M (Wb (un x.1.2.1))) ∧ (x.1.1 = 3 → ∃ w : LV, h.R 1159 EA = some w.1 ∧ RVL h w ∧ x.2.1.2.2.2 = some (lvE w) ∧ (w.2.1 < 16 ∧ fln w.2.2.2 < 2147483648) ∧ fbd (fer w.2.2.2) ∧ fdp w.2.2.2 ≤ 40 ∧ (vwB (lvE w)).length ≤ 1008)
def enpF : List Nat := [1152, 1153, 1154, 1156, 1157, 1158, 129, 1159, 130, 10000 + 177]
theorem ENP.fr {P : Nat → Nat → Prop} {h h' : AH} {EA : Nat} {Wb : Nat → By} {x : Pc × Cn × Bool} (q : Fr P h h') (np : ∀ f a, enpF.contains f = true → ¬ P f a) (nv : ∀ f a, 3712 ≤ f → f ≤ 3718 → ¬ P f a) (s : ENP h EA Wb x) : ENP h' EA Wb x := by
  obtain ⟨⟨a1, a2, a3, a4⟩, ⟨b1, b2⟩, c, d, e⟩ := s
  refine ⟨⟨q.tag a1, by rw [q.I (np _ _ rfl)]; exact a2, by rw [q.J (np _ _ rfl)]; exact a3, by rw [q.I (np _ _ rfl)]; exact a4⟩, ⟨by rw [q.J (np _ _ rfl)]; exact b1, by rw [q.J (np _ _ rfl)]; exact b2⟩, c, fun k2 => ?_, fun k3 => ?_⟩
  · obtain ⟨M, d1, ⟨d2, d3, d4⟩, d5⟩ := d k2
    exact ⟨M, by rw [q.R (np _ _ rfl)]; exact d1, ⟨q.tag d2, by rw [q.R (np _ _ rfl)]; exact d3, q.tag d4⟩, d5.fr q (fun f a hf => np f a (by
      have : [130, 10000 + 177].all (fun f => enpF.contains f) = true := rfl
      rw [List.all_eq_true] at this
      exact this f (List.contains_iff_mem.mp hf)))⟩
  · obtain ⟨w, e1, e2, e3⟩ := e k3
    exact ⟨w, by rw [q.R (np _ _ rfl)]; exact e1, e2.fr q (fun f b _ f1 f2 => nv f b f1 f2), e3⟩
section
variable {G : Gt} {d : Nat} {h : AH} {K : Outcome → AH → Prop} {A T SH : Nat} {sh : List Int32}
theorem digB_ok {M : Nat} {b : By} (t0 : h.tag A = some (0, 0)) (rT : h.R 19 A = some T) (hs : SHt h T) (hc : CR G h) (tb : h.tag (M + 525) = some (177, 2048)) (hb : BYR h M b) (hd : 6 ≤ d) (kk : ∀ h', Fq (FS dgF) h h' → SDg h' (T + 1) → (∀ j, j < 8 → h'.EI 576 (T + 1 + 3) j = dig (byD b) j) → K (.returned none) h') : MW G d e_X1_digestBytes [.ref A, .ref (M + 525), .int (nI b.1)] h K := by
  refine st_X1_digestBytes fun X o hG hD _ => ?_
  subst hG; subst hD
  obtain ⟨⟨e1, e2, -⟩, -, sd, -⟩ := hs
  have tD := sd.1.1
  have n2 := hb.2.1
  refine k_X1_digestBytes_0 o ?_
  refine dbegin_ok sd (fun h1 q1 g1 => ?_)
  refine k_X1_digestBytes_12 o ?_
  have loop : ∀ m k h2, m + k = b.1 → Fq (FS dgF) h h2 → DG h2 (T + 1) ((byD b).take k) → V X K 15 [.ref A, .ref (M + 525), .int (nI b.1), .ref (T + 1), .int (nI k)] [] h2 := by
    intro m
    induction m with
    | zero =>
      intro k h2 hk q2 g2
      have ek : k = b.1 := by omega
      subst ek
      have td2 := q2.1.tag tD
      refine k_X1_digestBytes_15 o (fun _ => ?_) (fun q => absurd (Int32.le_refl _) q)
      refine k_X1_digestBytes_35 o ?_
      have lb : (byD b).length = b.1 := by simp [byD]
      rw [← lb, List.take_length] at g2
      refine dend_ok g2 (hc.fr q2.1 (FS.n rfl)) (by omega) (by omega) (fun h3 q3 s3 w3 => ?_)
      refine k_X1_digestBytes_39 o ?_
      exact kk h3 (q2.trans q3) s3 w3
    | succ m ih =>
      intro k h2 hk q2 g2
      have td2 := q2.1.tag tD
      have tb2 := q2.1.tag tb
      have ix : IX (nI k) 2048 k := IX.mk (by omega) (by omega)
      refine k_X1_digestBytes_15 o (fun q => absurd ((nI_leI (by omega) (by omega)).mp q) (by omega)) (fun _ => ?_)
      refine k_X1_digestBytes_21 (T1 := 177) (r6 := rfl) o ?_
      have lb : (byD b).length = b.1 := by simp [byD]
      refine dadd_ok g2 (hc.fr q2.1 (FS.n rfl)) (by rw [List.length_take]; omega) (by omega) (fun h3 q3 g3 => ?_)
      refine k_X1_digestBytes_29 o ?_
      rw [nI_add]
      refine ih (k + 1) h3 (by omega) (q2.trans q3) ?_
      have ev : h2.EI 177 (M + 525) k &&& nI 255 = nI (b.2 k) := by rw [q2.1.EI (FS.n rfl)]; exact hb.2.2.2 k (by omega)
      have e : (byD b).take (k + 1) = (byD b).take k ++ [i8 (h2.EI 177 (M + 525) k)] := by
        rw [List.take_succ]
        have : (byD b)[k]? = some (i8 (nI (b.2 k))) := by
          unfold byD
          rw [List.getElem?_map, List.getElem?_range (by omega)]; rfl
        rw [this, i8_by (hb.2.2.1 k) ev]; rfl
      rw [e]; exact g3
  exact loop b.1 0 h1 (by omega) q1 (by rw [List.take_zero]; exact g1)
end
