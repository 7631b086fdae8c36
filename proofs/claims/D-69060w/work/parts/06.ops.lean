def w_iadd : Sm := fun _ _ _ nx _ _ L st h => match st with
  | .int y :: .int x :: r => nx L (.int (x + y) :: r) h
  | _ => False
theorem s_iadd {E : Et} {pc : Nat} (hd : decode E.cc pc = .ok (.iadd, 1)) : Snd E pc (w_iadd) (pc + 1) := by
  intro X o nx jp K k1 k2 L st h hw
  unfold w_iadd at hw
  split at hw
  · intro H locs cells slots ls h1 h2 h3 h4 h5
    exact lv_iadd o.1.1 o.1.2.1 hd (k1 _ _ _ hw H locs cells slots ls h1 h2 h3 h4 h5)
  · exact hw.elim
def w_isub : Sm := fun _ _ _ nx _ _ L st h => match st with
  | .int y :: .int x :: r => nx L (.int (x - y) :: r) h
  | _ => False
theorem s_isub {E : Et} {pc : Nat} (hd : decode E.cc pc = .ok (.isub, 1)) : Snd E pc (w_isub) (pc + 1) := by
  intro X o nx jp K k1 k2 L st h hw
  unfold w_isub at hw
  split at hw
  · intro H locs cells slots ls h1 h2 h3 h4 h5
    exact lv_isub o.1.1 o.1.2.1 hd (k1 _ _ _ hw H locs cells slots ls h1 h2 h3 h4 h5)
  · exact hw.elim
def w_imul : Sm := fun _ _ _ nx _ _ L st h => match st with
  | .int y :: .int x :: r => nx L (.int (x * y) :: r) h
  | _ => False
theorem s_imul {E : Et} {pc : Nat} (hd : decode E.cc pc = .ok (.imul, 1)) : Snd E pc (w_imul) (pc + 1) := by
  intro X o nx jp K k1 k2 L st h hw
  unfold w_imul at hw
  split at hw
  · intro H locs cells slots ls h1 h2 h3 h4 h5
    exact lv_imul o.1.1 o.1.2.1 hd (k1 _ _ _ hw H locs cells slots ls h1 h2 h3 h4 h5)
  · exact hw.elim
def w_iand : Sm := fun _ _ _ nx _ _ L st h => match st with
  | .int y :: .int x :: r => nx L (.int (x &&& y) :: r) h
  | _ => False
theorem s_iand {E : Et} {pc : Nat} (hd : decode E.cc pc = .ok (.iand, 1)) : Snd E pc (w_iand) (pc + 1) := by
  intro X o nx jp K k1 k2 L st h hw
  unfold w_iand at hw
  split at hw
  · intro H locs cells slots ls h1 h2 h3 h4 h5
    exact lv_iand o.1.1 o.1.2.1 hd (k1 _ _ _ hw H locs cells slots ls h1 h2 h3 h4 h5)
  · exact hw.elim
def w_ior : Sm := fun _ _ _ nx _ _ L st h => match st with
  | .int y :: .int x :: r => nx L (.int (x ||| y) :: r) h
  | _ => False
theorem s_ior {E : Et} {pc : Nat} (hd : decode E.cc pc = .ok (.ior, 1)) : Snd E pc (w_ior) (pc + 1) := by
  intro X o nx jp K k1 k2 L st h hw
  unfold w_ior at hw
  split at hw
  · intro H locs cells slots ls h1 h2 h3 h4 h5
    exact lv_ior o.1.1 o.1.2.1 hd (k1 _ _ _ hw H locs cells slots ls h1 h2 h3 h4 h5)
  · exact hw.elim
def w_ixor : Sm := fun _ _ _ nx _ _ L st h => match st with
  | .int y :: .int x :: r => nx L (.int (x ^^^ y) :: r) h
  | _ => False
theorem s_ixor {E : Et} {pc : Nat} (hd : decode E.cc pc = .ok (.ixor, 1)) : Snd E pc (w_ixor) (pc + 1) := by
  intro X o nx jp K k1 k2 L st h hw
  unfold w_ixor at hw
  split at hw
  · intro H locs cells slots ls h1 h2 h3 h4 h5
    exact lv_ixor o.1.1 o.1.2.1 hd (k1 _ _ _ hw H locs cells slots ls h1 h2 h3 h4 h5)
  · exact hw.elim
def w_ishl : Sm := fun _ _ _ nx _ _ L st h => match st with
  | .int y :: .int x :: r => nx L (.int (x <<< (y &&& 31)) :: r) h
  | _ => False
theorem s_ishl {E : Et} {pc : Nat} (hd : decode E.cc pc = .ok (.ishl, 1)) : Snd E pc (w_ishl) (pc + 1) := by
  intro X o nx jp K k1 k2 L st h hw
  unfold w_ishl at hw
  split at hw
  · intro H locs cells slots ls h1 h2 h3 h4 h5
    exact lv_ishl o.1.1 o.1.2.1 hd (k1 _ _ _ hw H locs cells slots ls h1 h2 h3 h4 h5)
  · exact hw.elim
def w_ishr : Sm := fun _ _ _ nx _ _ L st h => match st with
  | .int y :: .int x :: r => nx L (.int (x >>> (y &&& 31)) :: r) h
  | _ => False
theorem s_ishr {E : Et} {pc : Nat} (hd : decode E.cc pc = .ok (.ishr, 1)) : Snd E pc (w_ishr) (pc + 1) := by
  intro X o nx jp K k1 k2 L st h hw
  unfold w_ishr at hw
  split at hw
  · intro H locs cells slots ls h1 h2 h3 h4 h5
    exact lv_ishr o.1.1 o.1.2.1 hd (k1 _ _ _ hw H locs cells slots ls h1 h2 h3 h4 h5)
  · exact hw.elim
def w_iushr : Sm := fun _ _ _ nx _ _ L st h => match st with
  | .int y :: .int x :: r => nx L (.int ((x.toUInt32 >>> (y.toUInt32 &&& Int32.toUInt32 31)).toInt32) :: r) h
  | _ => False
theorem s_iushr {E : Et} {pc : Nat} (hd : decode E.cc pc = .ok (.iushr, 1)) : Snd E pc (w_iushr) (pc + 1) := by
  intro X o nx jp K k1 k2 L st h hw
  unfold w_iushr at hw
  split at hw
  · intro H locs cells slots ls h1 h2 h3 h4 h5
    exact lv_iushr o.1.1 o.1.2.1 hd rfl (k1 _ _ _ hw H locs cells slots ls h1 h2 h3 h4 h5)
  · exact hw.elim
def w_idiv : Sm := fun _ _ _ nx _ _ L st h => match st with
  | .int y :: .int x :: r => (¬ y = 0) ∧ nx L (.int (x / y) :: r) h
  | _ => False
theorem s_idiv {E : Et} {pc : Nat} (hd : decode E.cc pc = .ok (.idiv, 1)) : Snd E pc (w_idiv) (pc + 1) := by
  intro X o nx jp K k1 k2 L st h hw
  unfold w_idiv at hw
  split at hw
  · intro H locs cells slots ls h1 h2 h3 h4 h5
    exact lv_idiv o.1.1 o.1.2.1 hd hw.1 (k1 _ _ _ hw.2 H locs cells slots ls h1 h2 h3 h4 h5)
  · exact hw.elim
def w_irem : Sm := fun _ _ _ nx _ _ L st h => match st with
  | .int y :: .int x :: r => (¬ y = 0) ∧ nx L (.int (x - x / y * y) :: r) h
  | _ => False
theorem s_irem {E : Et} {pc : Nat} (hd : decode E.cc pc = .ok (.irem, 1)) : Snd E pc (w_irem) (pc + 1) := by
  intro X o nx jp K k1 k2 L st h hw
  unfold w_irem at hw
  split at hw
  · intro H locs cells slots ls h1 h2 h3 h4 h5
    exact lv_irem o.1.1 o.1.2.1 hd hw.1 (k1 _ _ _ hw.2 H locs cells slots ls h1 h2 h3 h4 h5)
  · exact hw.elim
def w_ladd : Sm := fun _ _ _ nx _ _ L st h => match st with
  | .long y :: .long x :: r => nx L (.long (x + y) :: r) h
  | _ => False
theorem s_ladd {E : Et} {pc : Nat} (hd : decode E.cc pc = .ok (.ladd, 1)) : Snd E pc (w_ladd) (pc + 1) := by
  intro X o nx jp K k1 k2 L st h hw
  unfold w_ladd at hw
  split at hw
  · intro H locs cells slots ls h1 h2 h3 h4 h5
    exact lv_ladd o.1.1 o.1.2.1 hd (k1 _ _ _ hw H locs cells slots ls h1 h2 h3 h4 h5)
  · exact hw.elim
def w_lsub : Sm := fun _ _ _ nx _ _ L st h => match st with
  | .long y :: .long x :: r => nx L (.long (x - y) :: r) h
  | _ => False
theorem s_lsub {E : Et} {pc : Nat} (hd : decode E.cc pc = .ok (.lsub, 1)) : Snd E pc (w_lsub) (pc + 1) := by
  intro X o nx jp K k1 k2 L st h hw
  unfold w_lsub at hw
  split at hw
  · intro H locs cells slots ls h1 h2 h3 h4 h5
    exact lv_lsub o.1.1 o.1.2.1 hd (k1 _ _ _ hw H locs cells slots ls h1 h2 h3 h4 h5)
  · exact hw.elim
def w_lmul : Sm := fun _ _ _ nx _ _ L st h => match st with
  | .long y :: .long x :: r => nx L (.long (x * y) :: r) h
  | _ => False
theorem s_lmul {E : Et} {pc : Nat} (hd : decode E.cc pc = .ok (.lmul, 1)) : Snd E pc (w_lmul) (pc + 1) := by
  intro X o nx jp K k1 k2 L st h hw
  unfold w_lmul at hw
  split at hw
  · intro H locs cells slots ls h1 h2 h3 h4 h5
    exact lv_lmul o.1.1 o.1.2.1 hd (k1 _ _ _ hw H locs cells slots ls h1 h2 h3 h4 h5)
  · exact hw.elim
def w_land : Sm := fun _ _ _ nx _ _ L st h => match st with
  | .long y :: .long x :: r => nx L (.long (x &&& y) :: r) h
  | _ => False
theorem s_land {E : Et} {pc : Nat} (hd : decode E.cc pc = .ok (.land, 1)) : Snd E pc (w_land) (pc + 1) := by
  intro X o nx jp K k1 k2 L st h hw
  unfold w_land at hw
  split at hw
  · intro H locs cells slots ls h1 h2 h3 h4 h5
    exact lv_land o.1.1 o.1.2.1 hd (k1 _ _ _ hw H locs cells slots ls h1 h2 h3 h4 h5)
  · exact hw.elim
def w_lor : Sm := fun _ _ _ nx _ _ L st h => match st with
  | .long y :: .long x :: r => nx L (.long (x ||| y) :: r) h
  | _ => False
theorem s_lor {E : Et} {pc : Nat} (hd : decode E.cc pc = .ok (.lor, 1)) : Snd E pc (w_lor) (pc + 1) := by
  intro X o nx jp K k1 k2 L st h hw
  unfold w_lor at hw
  split at hw
  · intro H locs cells slots ls h1 h2 h3 h4 h5
    exact lv_lor o.1.1 o.1.2.1 hd (k1 _ _ _ hw H locs cells slots ls h1 h2 h3 h4 h5)
  · exact hw.elim
def w_lxor : Sm := fun _ _ _ nx _ _ L st h => match st with
  | .long y :: .long x :: r => nx L (.long (x ^^^ y) :: r) h
  | _ => False
theorem s_lxor {E : Et} {pc : Nat} (hd : decode E.cc pc = .ok (.lxor, 1)) : Snd E pc (w_lxor) (pc + 1) := by
  intro X o nx jp K k1 k2 L st h hw
  unfold w_lxor at hw
  split at hw
  · intro H locs cells slots ls h1 h2 h3 h4 h5
    exact lv_lxor o.1.1 o.1.2.1 hd (k1 _ _ _ hw H locs cells slots ls h1 h2 h3 h4 h5)
  · exact hw.elim
def w_lshl : Sm := fun _ _ _ nx _ _ L st h => match st with
  | .int y :: .long x :: r => nx L (.long (x <<< (y.toInt64 &&& 63)) :: r) h
  | _ => False
theorem s_lshl {E : Et} {pc : Nat} (hd : decode E.cc pc = .ok (.lshl, 1)) : Snd E pc (w_lshl) (pc + 1) := by
  intro X o nx jp K k1 k2 L st h hw
  unfold w_lshl at hw
  split at hw
  · intro H locs cells slots ls h1 h2 h3 h4 h5
    exact lv_lshl o.1.1 o.1.2.1 hd rfl (k1 _ _ _ hw H locs cells slots ls h1 h2 h3 h4 h5)
  · exact hw.elim
def w_lshr : Sm := fun _ _ _ nx _ _ L st h => match st with
  | .int y :: .long x :: r => nx L (.long (x >>> (y.toInt64 &&& 63)) :: r) h
  | _ => False
theorem s_lshr {E : Et} {pc : Nat} (hd : decode E.cc pc = .ok (.lshr, 1)) : Snd E pc (w_lshr) (pc + 1) := by
  intro X o nx jp K k1 k2 L st h hw
  unfold w_lshr at hw
  split at hw
  · intro H locs cells slots ls h1 h2 h3 h4 h5
    exact lv_lshr o.1.1 o.1.2.1 hd rfl (k1 _ _ _ hw H locs cells slots ls h1 h2 h3 h4 h5)
  · exact hw.elim
def w_lushr : Sm := fun _ _ _ nx _ _ L st h => match st with
  | .int y :: .long x :: r => nx L (.long ((x.toUInt64 >>> (y.toInt64.toUInt64 &&& Int64.toUInt64 63)).toInt64) :: r) h
  | _ => False
theorem s_lushr {E : Et} {pc : Nat} (hd : decode E.cc pc = .ok (.lushr, 1)) : Snd E pc (w_lushr) (pc + 1) := by
  intro X o nx jp K k1 k2 L st h hw
  unfold w_lushr at hw
  split at hw
  · intro H locs cells slots ls h1 h2 h3 h4 h5
    exact lv_lushr o.1.1 o.1.2.1 hd rfl (k1 _ _ _ hw H locs cells slots ls h1 h2 h3 h4 h5)
  · exact hw.elim
def w_lcmp : Sm := fun _ _ _ nx _ _ L st h => match st with
  | .long y :: .long x :: r => nx L (.int (lg_cmp x y) :: r) h
  | _ => False
theorem s_lcmp {E : Et} {pc : Nat} (hd : decode E.cc pc = .ok (.lcmp, 1)) : Snd E pc (w_lcmp) (pc + 1) := by
  intro X o nx jp K k1 k2 L st h hw
  unfold w_lcmp at hw
  split at hw
  · intro H locs cells slots ls h1 h2 h3 h4 h5
    exact W.lcmp o.1.1 o.1.2.1 hd (k1 _ _ _ hw H locs cells slots ls h1 h2 h3 h4 h5)
  · exact hw.elim
def w_i2l : Sm := fun _ _ _ nx _ _ L st h => match st with
  | .int x :: r => nx L (.long x.toInt64 :: r) h
  | _ => False
theorem s_i2l {E : Et} {pc : Nat} (hd : decode E.cc pc = .ok (.i2l, 1)) : Snd E pc (w_i2l) (pc + 1) := by
  intro X o nx jp K k1 k2 L st h hw
  unfold w_i2l at hw
  split at hw
  · intro H locs cells slots ls h1 h2 h3 h4 h5
    exact lv_i2l o.1.1 o.1.2.1 hd rfl (k1 _ _ _ hw H locs cells slots ls h1 h2 h3 h4 h5)
  · exact hw.elim
def w_l2i : Sm := fun _ _ _ nx _ _ L st h => match st with
  | .long x :: r => nx L (.int x.toInt32 :: r) h
  | _ => False
theorem s_l2i {E : Et} {pc : Nat} (hd : decode E.cc pc = .ok (.l2i, 1)) : Snd E pc (w_l2i) (pc + 1) := by
  intro X o nx jp K k1 k2 L st h hw
  unfold w_l2i at hw
  split at hw
  · intro H locs cells slots ls h1 h2 h3 h4 h5
    exact lv_l2i o.1.1 o.1.2.1 hd rfl (k1 _ _ _ hw H locs cells slots ls h1 h2 h3 h4 h5)
  · exact hw.elim
def w_i2b : Sm := fun _ _ _ nx _ _ L st h => match st with
  | .int x :: r => nx L (.int x.toInt8.toInt32 :: r) h
  | _ => False
theorem s_i2b {E : Et} {pc : Nat} (hd : decode E.cc pc = .ok (.i2b, 1)) : Snd E pc (w_i2b) (pc + 1) := by
  intro X o nx jp K k1 k2 L st h hw
  unfold w_i2b at hw
  split at hw
  · intro H locs cells slots ls h1 h2 h3 h4 h5
    exact lv_i2b o.1.1 o.1.2.1 hd rfl (k1 _ _ _ hw H locs cells slots ls h1 h2 h3 h4 h5)
  · exact hw.elim
def w_dup : Sm := fun _ _ _ nx _ _ L st h => match st with
  | v :: r => v.category = 1 ∧ nx L (v :: v :: r) h
  | _ => False
theorem s_dup {E : Et} {pc : Nat} (hd : decode E.cc pc = .ok (.dup, 1)) : Snd E pc (w_dup) (pc + 1) := by
  intro X o nx jp K k1 k2 L st h hw
  unfold w_dup at hw
  split at hw
  · intro H locs cells slots ls h1 h2 h3 h4 h5
    exact lv_dup o.1.1 o.1.2.1 hd hw.1 (k1 _ _ _ hw.2 H locs cells slots ls h1 h2 h3 h4 h5)
  · exact hw.elim
def w_pop : Sm := fun _ _ _ nx _ _ L st h => match st with
  | v :: r => v.category = 1 ∧ nx L (r) h
  | _ => False
theorem s_pop {E : Et} {pc : Nat} (hd : decode E.cc pc = .ok (.pop, 1)) : Snd E pc (w_pop) (pc + 1) := by
  intro X o nx jp K k1 k2 L st h hw
  unfold w_pop at hw
  split at hw
  · intro H locs cells slots ls h1 h2 h3 h4 h5
    exact lv_pop o.1.1 o.1.2.1 hd hw.1 (k1 _ _ _ hw.2 H locs cells slots ls h1 h2 h3 h4 h5)
  · exact hw.elim
def w_dup2 : Sm := fun _ _ _ nx _ _ L st h => match st with
  | v :: w :: r => (v.category = 1 ∧ w.category = 1) ∧ nx L (v :: w :: v :: w :: r) h
  | _ => False
theorem s_dup2 {E : Et} {pc : Nat} (hd : decode E.cc pc = .ok (.dup2, 1)) : Snd E pc (w_dup2) (pc + 1) := by
  intro X o nx jp K k1 k2 L st h hw
  unfold w_dup2 at hw
  split at hw
  · intro H locs cells slots ls h1 h2 h3 h4 h5
    exact lv_dup2_11 o.1.1 o.1.2.1 hd hw.1.1 hw.1.2 (k1 _ _ _ hw.2 H locs cells slots ls h1 h2 h3 h4 h5)
  · exact hw.elim
def w_ic (v : Int32) : Sm := fun _ _ _ nx _ _ L st h => nx L (.int v :: st) h
def w_lc (v : Int64) : Sm := fun _ _ _ nx _ _ L st h => nx L (.long v :: st) h
def w_nu : Sm := fun _ _ _ nx _ _ L st h => nx L (.null :: st) h
theorem s_iconst {E : Et} {pc : Nat} {n : Int} {v : Int32} (hd : decode E.cc pc = .ok (.iconst n, 1)) (hv : Int32.ofInt n = v) : Snd E pc (w_ic v) (pc + 1) := by
  intro X o nx jp K k1 k2 L st h hw
  intro H locs cells slots ls h1 h2 h3 h4 h5
  exact lv_iconst o.1.1 o.1.2.1 hd hv (k1 _ _ _ hw H locs cells slots ls h1 h2 h3 h4 h5)
theorem s_bipush {E : Et} {pc : Nat} {n : Int} {v : Int32} (hd : decode E.cc pc = .ok (.bipush n, 2)) (hv : (Int8.ofInt n).toInt32 = v) : Snd E pc (w_ic v) (pc + 2) := by
  intro X o nx jp K k1 k2 L st h hw
  intro H locs cells slots ls h1 h2 h3 h4 h5
  exact lv_bipush o.1.1 o.1.2.1 hd hv (k1 _ _ _ hw H locs cells slots ls h1 h2 h3 h4 h5)
theorem s_sipush {E : Et} {pc : Nat} {n : Int} {v : Int32} (hd : decode E.cc pc = .ok (.sipush n, 3)) (hv : (Int16.ofInt n).toInt32 = v) : Snd E pc (w_ic v) (pc + 3) := by
  intro X o nx jp K k1 k2 L st h hw
  intro H locs cells slots ls h1 h2 h3 h4 h5
  exact lv_sipush o.1.1 o.1.2.1 hd hv (k1 _ _ _ hw H locs cells slots ls h1 h2 h3 h4 h5)
theorem s_lconst {E : Et} {pc : Nat} {n : Fin 2} {v : Int64} (hd : decode E.cc pc = .ok (.lconst n, 1)) (hv : Int64.ofNat (n : Nat) = v) : Snd E pc (w_lc v) (pc + 1) := by
  intro X o nx jp K k1 k2 L st h hw
  intro H locs cells slots ls h1 h2 h3 h4 h5
  exact lv_lconst o.1.1 o.1.2.1 hd hv (k1 _ _ _ hw H locs cells slots ls h1 h2 h3 h4 h5)
theorem s_ldc {E : Et} {pc : Nat} {i : Nat} {v : Int32} (hd : decode E.cc pc = .ok (.ldc i, 2)) (hc : Cond.constant E.y.cls i v ∈ lw_all) : Snd E pc (w_ic v) (pc + 2) := by
  intro X o nx jp K k1 k2 L st h hw
  intro H locs cells slots ls h1 h2 h3 h4 h5
  exact lv_ldc o.1.1 o.1.2.1 o.2.1.1 (o.2.1.2.1 _ hc) hd (k1 _ _ _ hw H locs cells slots ls h1 h2 h3 h4 h5)
theorem s_ldcw {E : Et} {pc : Nat} {i : Nat} {v : Int32} (hd : decode E.cc pc = .ok (.ldc_w i, 3)) (hc : Cond.constant E.y.cls i v ∈ lw_all) : Snd E pc (w_ic v) (pc + 3) := by
  intro X o nx jp K k1 k2 L st h hw
  intro H locs cells slots ls h1 h2 h3 h4 h5
  exact lv_ldcw o.1.1 o.1.2.1 o.2.1.1 (o.2.1.2.1 _ hc) hd (k1 _ _ _ hw H locs cells slots ls h1 h2 h3 h4 h5)
theorem s_ldc2 {E : Et} {pc : Nat} {i : Nat} {v : Int64} (hd : decode E.cc pc = .ok (.ldc2_w i, 3)) (hc : Cond.constantLong E.y.cls i v ∈ lw_all) : Snd E pc (w_lc v) (pc + 3) := by
  intro X o nx jp K k1 k2 L st h hw
  intro H locs cells slots ls h1 h2 h3 h4 h5
  exact lv_ldc2 o.1.1 o.1.2.1 o.2.1.1 (o.2.1.2.1 _ hc) hd (k1 _ _ _ hw H locs cells slots ls h1 h2 h3 h4 h5)
theorem s_null {E : Et} {pc : Nat}  (hd : decode E.cc pc = .ok (.aconst_null, 1))  : Snd E pc (w_nu) (pc + 1) := by
  intro X o nx jp K k1 k2 L st h hw
  intro H locs cells slots ls h1 h2 h3 h4 h5
  exact lv_null o.1.1 o.1.2.1 hd (k1 _ _ _ hw H locs cells slots ls h1 h2 h3 h4 h5)
def w_il (i : Nat) : Sm := fun _ _ _ nx _ _ L st h => match L[i]? with
  | some (.int x) => nx L (.int x :: st) h
  | _ => False
theorem s_il {E : Et} {pc : Nat} {i : Nat} (hd : decode E.cc pc = .ok (.iload i, 2))  : Snd E pc (w_il i) (pc + 2) := by
  intro X o nx jp K k1 k2 L st h hw
  unfold w_il at hw
  split at hw
  · next x hx =>
    intro H locs cells slots ls h1 h2 h3 h4 h5
    exact lv_iload o.1.1 o.1.2.1 hd (h2.at hx (by simp [nov])) (k1 _ _ _ hw H locs cells slots ls h1 h2 h3 h4 h5)
  · exact hw.elim
theorem s_iln {E : Et} {pc : Nat} {k : Fin 4} {i : Nat} (hd : decode E.cc pc = .ok (.iload_n k, 1)) (hi : (k : Nat) = i) : Snd E pc (w_il i) (pc + 1) := by
  intro X o nx jp K k1 k2 L st h hw
  unfold w_il at hw
  split at hw
  · next x hx =>
    intro H locs cells slots ls h1 h2 h3 h4 h5
    exact lv_iload_n o.1.1 o.1.2.1 hd hi (h2.at hx (by simp [nov])) (k1 _ _ _ hw H locs cells slots ls h1 h2 h3 h4 h5)
  · exact hw.elim
def w_ll (i : Nat) : Sm := fun _ _ _ nx _ _ L st h => match L[i]? with
  | some (.long x) => nx L (.long x :: st) h
  | _ => False
theorem s_ll {E : Et} {pc : Nat} {i : Nat} (hd : decode E.cc pc = .ok (.lload i, 2))  : Snd E pc (w_ll i) (pc + 2) := by
  intro X o nx jp K k1 k2 L st h hw
  unfold w_ll at hw
  split at hw
  · next x hx =>
    intro H locs cells slots ls h1 h2 h3 h4 h5
    exact lv_lload o.1.1 o.1.2.1 hd (h2.at hx (by simp [nov])) (k1 _ _ _ hw H locs cells slots ls h1 h2 h3 h4 h5)
  · exact hw.elim
theorem s_lln {E : Et} {pc : Nat} {k : Fin 4} {i : Nat} (hd : decode E.cc pc = .ok (.lload_n k, 1)) (hi : (k : Nat) = i) : Snd E pc (w_ll i) (pc + 1) := by
  intro X o nx jp K k1 k2 L st h hw
  unfold w_ll at hw
  split at hw
  · next x hx =>
    intro H locs cells slots ls h1 h2 h3 h4 h5
    exact lv_lload_n o.1.1 o.1.2.1 hd hi (h2.at hx (by simp [nov])) (k1 _ _ _ hw H locs cells slots ls h1 h2 h3 h4 h5)
  · exact hw.elim
def isR : Value → Bool
  | .ref _ => true
  | .null => true
  | _ => false
theorem isR_rf (o : Option Nat) : isR (va_rf o) = true := by cases o <;> rfl
def w_al (i : Nat) : Sm := fun _ _ _ nx _ _ L st h => match L[i]? with
  | some v => isR v = true ∧ nx L (v :: st) h
  | none => False
theorem s_al {E : Et} {pc : Nat} {i : Nat} (hd : decode E.cc pc = .ok (.aload i, 2))  : Snd E pc (w_al i) (pc + 2) := by
  intro X o nx jp K k1 k2 L st h hw
  unfold w_al at hw
  split at hw
  · next v hx =>
    intro H locs cells slots ls h1 h2 h3 h4 h5
    obtain ⟨hr, hw⟩ := hw
    cases v <;> first | exact absurd hr Bool.false_ne_true | exact lv_aload o.1.1 o.1.2.1 hd (h2.at hx (by simp [nov])) (k1 _ _ _ hw H locs cells slots ls h1 h2 h3 h4 h5) | exact lv_aloadN o.1.1 o.1.2.1 hd (h2.at hx (by simp [nov])) (k1 _ _ _ hw H locs cells slots ls h1 h2 h3 h4 h5)
  · exact hw.elim
theorem s_aln {E : Et} {pc : Nat} {k : Fin 4} {i : Nat} (hd : decode E.cc pc = .ok (.aload_n k, 1)) (hi : (k : Nat) = i) : Snd E pc (w_al i) (pc + 1) := by
  intro X o nx jp K k1 k2 L st h hw
  unfold w_al at hw
  split at hw
  · next v hx =>
    intro H locs cells slots ls h1 h2 h3 h4 h5
    obtain ⟨hr, hw⟩ := hw
    cases v <;> first | exact absurd hr Bool.false_ne_true | exact lv_aload_n o.1.1 o.1.2.1 hd hi (h2.at hx (by simp [nov])) (k1 _ _ _ hw H locs cells slots ls h1 h2 h3 h4 h5) | exact lv_aload_nN o.1.1 o.1.2.1 hd hi (h2.at hx (by simp [nov])) (k1 _ _ _ hw H locs cells slots ls h1 h2 h3 h4 h5)
  · exact hw.elim
def w_is (i : Nat) : Sm := fun _ _ wd nx _ _ L st h => match st with
  | .int x :: r => i < L.length ∧ nx (ls1 wd L i (.int x)) r h
  | _ => False
def w_ls (i : Nat) : Sm := fun _ _ wd nx _ _ L st h => match st with
  | .long x :: r => (i + 1 < L.length ∧ wd.contains i = true) ∧ nx (ls2 wd L i (.long x)) r h
  | _ => False
def w_as (i : Nat) : Sm := fun _ _ wd nx _ _ L st h => match st with
  | v :: r => (isR v = true ∧ i < L.length) ∧ nx (ls1 wd L i v) r h
  | _ => False
theorem s_is {E : Et} {pc : Nat} {i : Nat} (hd : decode E.cc pc = .ok (.istore i, 2))  : Snd E pc (w_is i) (pc + 2) := by
  intro X o nx jp K k1 k2 L st h hw
  unfold w_is at hw
  split at hw
  · intro H locs cells slots ls h1 h2 h3 h4 h5
    exact lv_istore o.1.1 o.1.2.1 hd h2.1.1 hw.1 rfl (fun ls' h' => k1 _ _ _ (by rw [← o.1.2.2.2.2.2.2] at hw; exact hw.2) H locs cells slots ls' h1 (h2.st1 rfl h') h3 h4 h5)
  · exact hw.elim
theorem s_isn {E : Et} {pc : Nat} {k : Fin 4} {i : Nat} (hd : decode E.cc pc = .ok (.istore_n k, 1)) (hi : (k : Nat) = i) : Snd E pc (w_is i) (pc + 1) := by
  intro X o nx jp K k1 k2 L st h hw
  unfold w_is at hw
  split at hw
  · intro H locs cells slots ls h1 h2 h3 h4 h5
    exact lv_istore_n o.1.1 o.1.2.1 hd hi h2.1.1 hw.1 rfl (fun ls' h' => k1 _ _ _ (by rw [← o.1.2.2.2.2.2.2] at hw; exact hw.2) H locs cells slots ls' h1 (h2.st1 rfl h') h3 h4 h5)
  · exact hw.elim
theorem s_ls {E : Et} {pc : Nat} {i : Nat} (hd : decode E.cc pc = .ok (.lstore i, 2))  : Snd E pc (w_ls i) (pc + 2) := by
  intro X o nx jp K k1 k2 L st h hw
  unfold w_ls at hw
  split at hw
  · intro H locs cells slots ls h1 h2 h3 h4 h5
    exact lv_lstore o.1.1 o.1.2.1 hd h2.1.1 hw.1.1 rfl (fun ls' h' => k1 _ _ _ (by rw [← o.1.2.2.2.2.2.2] at hw; exact hw.2) H locs cells slots ls' h1 (h2.st2 (by rw [o.1.2.2.2.2.2.2]; exact hw.1.2) h') h3 h4 h5)
  · exact hw.elim
theorem s_lsn {E : Et} {pc : Nat} {k : Fin 4} {i : Nat} (hd : decode E.cc pc = .ok (.lstore_n k, 1)) (hi : (k : Nat) = i) : Snd E pc (w_ls i) (pc + 1) := by
  intro X o nx jp K k1 k2 L st h hw
  unfold w_ls at hw
  split at hw
  · intro H locs cells slots ls h1 h2 h3 h4 h5
    exact lv_lstore_n o.1.1 o.1.2.1 hd hi h2.1.1 hw.1.1 rfl (fun ls' h' => k1 _ _ _ (by rw [← o.1.2.2.2.2.2.2] at hw; exact hw.2) H locs cells slots ls' h1 (h2.st2 (by rw [o.1.2.2.2.2.2.2]; exact hw.1.2) h') h3 h4 h5)
  · exact hw.elim
theorem s_as {E : Et} {pc : Nat} {i : Nat} (hd : decode E.cc pc = .ok (.astore i, 2))  : Snd E pc (w_as i) (pc + 2) := by
  intro X o nx jp K k1 k2 L st h hw
  unfold w_as at hw
  split at hw
  · next v r =>
    intro H locs cells slots ls h1 h2 h3 h4 h5
    rw [← o.1.2.2.2.2.2.2] at hw
    obtain ⟨⟨hr, hi2⟩, hw⟩ := hw
    cases v <;> first | exact absurd hr Bool.false_ne_true | exact lv_astore o.1.1 o.1.2.1 hd h2.1.1 hi2 rfl (fun ls' h' => k1 _ _ _ hw H locs cells slots ls' h1 (h2.st1 rfl h') h3 h4 h5) | exact lv_astoreN o.1.1 o.1.2.1 hd h2.1.1 hi2 rfl (fun ls' h' => k1 _ _ _ hw H locs cells slots ls' h1 (h2.st1 rfl h') h3 h4 h5)
  · exact hw.elim
theorem s_asn {E : Et} {pc : Nat} {k : Fin 4} {i : Nat} (hd : decode E.cc pc = .ok (.astore_n k, 1)) (hi : (k : Nat) = i) : Snd E pc (w_as i) (pc + 1) := by
  intro X o nx jp K k1 k2 L st h hw
  unfold w_as at hw
  split at hw
  · next v r =>
    intro H locs cells slots ls h1 h2 h3 h4 h5
    rw [← o.1.2.2.2.2.2.2] at hw
    obtain ⟨⟨hr, hi2⟩, hw⟩ := hw
    cases v <;> first | exact absurd hr Bool.false_ne_true | exact lv_astore_n o.1.1 o.1.2.1 hd hi h2.1.1 hi2 rfl (fun ls' h' => k1 _ _ _ hw H locs cells slots ls' h1 (h2.st1 rfl h') h3 h4 h5) | exact lv_astore_nN o.1.1 o.1.2.1 hd hi h2.1.1 hi2 rfl (fun ls' h' => k1 _ _ _ hw H locs cells slots ls' h1 (h2.st1 rfl h') h3 h4 h5)
  · exact hw.elim
def w_inc (i : Nat) (d : Int32) : Sm := fun _ _ wd nx _ _ L st h => match L[i]? with
  | some (.int x) => nx (ls1 wd L i (.int (x + d))) st h
  | _ => False
theorem s_inc {E : Et} {pc : Nat} {i : Nat} {n : Int} {d : Int32} (hd : decode E.cc pc = .ok (.iinc i n, 3)) (hv : Int32.ofInt n = d) : Snd E pc (w_inc i d) (pc + 3) := by
  intro X o nx jp K k1 k2 L st h hw
  unfold w_inc at hw
  split at hw
  · next x hx =>
    intro H locs cells slots ls h1 h2 h3 h4 h5
    rw [← o.1.2.2.2.2.2.2] at hw
    have hm : (i, Value.int x) ∈ asc L := mem_asc.mpr ⟨hx, by simp [nov]⟩
    obtain ⟨k, hk⟩ := List.getElem?_of_mem hm
    exact lv_iinc o.1.1 o.1.2.1 hd h2.1.1 hk (by rw [hv]) (List.getElem?_eq_some_iff.mp hx).1 rfl (fun ls' h' => k1 _ _ _ hw H locs cells slots ls' h1 (h2.st1 rfl h') h3 h4 h5)
  · exact hw.elim
def w_if_eq (t : Nat) : Sm := fun _ _ _ nx jp _ L st h => match st with
  | .int x :: r => (x = 0 → jp t L r h) ∧ (¬ (x = 0) → nx L r h)
  | _ => False
theorem s_if_eq {E : Et} {pc t : Nat} {off : Int} (hd : decode E.cc pc = .ok (.ifCond .eq off, 3)) (ht : (pc : Int) + off = (t : Int)) : Snd E pc (w_if_eq t) (pc + 3) := by
  intro X o nx jp K k1 k2 L st h hw
  unfold w_if_eq at hw
  split at hw
  · intro H locs cells slots ls h1 h2 h3 h4 h5
    exact lv_if_eq o.1.1 o.1.2.1 hd ht (fun c => k2 _ _ _ _ (hw.1 c) H locs cells slots ls h1 h2 h3 h4 h5) (fun c => k1 _ _ _ (hw.2 c) H locs cells slots ls h1 h2 h3 h4 h5)
  · exact hw.elim
def w_ic_eq (t : Nat) : Sm := fun _ _ _ nx jp _ L st h => match st with
  | .int y :: .int x :: r => (x = y → jp t L r h) ∧ (¬ (x = y) → nx L r h)
  | _ => False
theorem s_ic_eq {E : Et} {pc t : Nat} {off : Int} (hd : decode E.cc pc = .ok (.if_icmp .eq off, 3)) (ht : (pc : Int) + off = (t : Int)) : Snd E pc (w_ic_eq t) (pc + 3) := by
  intro X o nx jp K k1 k2 L st h hw
  unfold w_ic_eq at hw
  split at hw
  · intro H locs cells slots ls h1 h2 h3 h4 h5
    exact lv_icmp_eq o.1.1 o.1.2.1 hd ht (fun c => k2 _ _ _ _ (hw.1 c) H locs cells slots ls h1 h2 h3 h4 h5) (fun c => k1 _ _ _ (hw.2 c) H locs cells slots ls h1 h2 h3 h4 h5)
  · exact hw.elim
def w_if_ne (t : Nat) : Sm := fun _ _ _ nx jp _ L st h => match st with
  | .int x :: r => (¬ x = 0 → jp t L r h) ∧ (x = 0 → nx L r h)
  | _ => False
theorem s_if_ne {E : Et} {pc t : Nat} {off : Int} (hd : decode E.cc pc = .ok (.ifCond .ne off, 3)) (ht : (pc : Int) + off = (t : Int)) : Snd E pc (w_if_ne t) (pc + 3) := by
  intro X o nx jp K k1 k2 L st h hw
  unfold w_if_ne at hw
  split at hw
  · intro H locs cells slots ls h1 h2 h3 h4 h5
    exact lv_if_ne o.1.1 o.1.2.1 hd ht (fun c => k2 _ _ _ _ (hw.1 c) H locs cells slots ls h1 h2 h3 h4 h5) (fun c => k1 _ _ _ (hw.2 c) H locs cells slots ls h1 h2 h3 h4 h5)
  · exact hw.elim
def w_ic_ne (t : Nat) : Sm := fun _ _ _ nx jp _ L st h => match st with
  | .int y :: .int x :: r => (¬ x = y → jp t L r h) ∧ (x = y → nx L r h)
  | _ => False
theorem s_ic_ne {E : Et} {pc t : Nat} {off : Int} (hd : decode E.cc pc = .ok (.if_icmp .ne off, 3)) (ht : (pc : Int) + off = (t : Int)) : Snd E pc (w_ic_ne t) (pc + 3) := by
  intro X o nx jp K k1 k2 L st h hw
  unfold w_ic_ne at hw
  split at hw
  · intro H locs cells slots ls h1 h2 h3 h4 h5
    exact lv_icmp_ne o.1.1 o.1.2.1 hd ht (fun c => k2 _ _ _ _ (hw.1 c) H locs cells slots ls h1 h2 h3 h4 h5) (fun c => k1 _ _ _ (hw.2 c) H locs cells slots ls h1 h2 h3 h4 h5)
  · exact hw.elim
def w_if_lt (t : Nat) : Sm := fun _ _ _ nx jp _ L st h => match st with
  | .int x :: r => (x < 0 → jp t L r h) ∧ (¬ (x < 0) → nx L r h)
  | _ => False
theorem s_if_lt {E : Et} {pc t : Nat} {off : Int} (hd : decode E.cc pc = .ok (.ifCond .lt off, 3)) (ht : (pc : Int) + off = (t : Int)) : Snd E pc (w_if_lt t) (pc + 3) := by
  intro X o nx jp K k1 k2 L st h hw
  unfold w_if_lt at hw
  split at hw
  · intro H locs cells slots ls h1 h2 h3 h4 h5
    exact lv_if_lt o.1.1 o.1.2.1 hd ht (fun c => k2 _ _ _ _ (hw.1 c) H locs cells slots ls h1 h2 h3 h4 h5) (fun c => k1 _ _ _ (hw.2 c) H locs cells slots ls h1 h2 h3 h4 h5)
  · exact hw.elim
def w_ic_lt (t : Nat) : Sm := fun _ _ _ nx jp _ L st h => match st with
  | .int y :: .int x :: r => (x < y → jp t L r h) ∧ (¬ (x < y) → nx L r h)
  | _ => False
theorem s_ic_lt {E : Et} {pc t : Nat} {off : Int} (hd : decode E.cc pc = .ok (.if_icmp .lt off, 3)) (ht : (pc : Int) + off = (t : Int)) : Snd E pc (w_ic_lt t) (pc + 3) := by
  intro X o nx jp K k1 k2 L st h hw
  unfold w_ic_lt at hw
  split at hw
  · intro H locs cells slots ls h1 h2 h3 h4 h5
    exact lv_icmp_lt o.1.1 o.1.2.1 hd ht (fun c => k2 _ _ _ _ (hw.1 c) H locs cells slots ls h1 h2 h3 h4 h5) (fun c => k1 _ _ _ (hw.2 c) H locs cells slots ls h1 h2 h3 h4 h5)
  · exact hw.elim
def w_if_ge (t : Nat) : Sm := fun _ _ _ nx jp _ L st h => match st with
  | .int x :: r => (0 ≤ x → jp t L r h) ∧ (¬ (0 ≤ x) → nx L r h)
  | _ => False
theorem s_if_ge {E : Et} {pc t : Nat} {off : Int} (hd : decode E.cc pc = .ok (.ifCond .ge off, 3)) (ht : (pc : Int) + off = (t : Int)) : Snd E pc (w_if_ge t) (pc + 3) := by
  intro X o nx jp K k1 k2 L st h hw
  unfold w_if_ge at hw
  split at hw
  · intro H locs cells slots ls h1 h2 h3 h4 h5
    exact lv_if_ge o.1.1 o.1.2.1 hd ht (fun c => k2 _ _ _ _ (hw.1 c) H locs cells slots ls h1 h2 h3 h4 h5) (fun c => k1 _ _ _ (hw.2 c) H locs cells slots ls h1 h2 h3 h4 h5)
  · exact hw.elim
def w_ic_ge (t : Nat) : Sm := fun _ _ _ nx jp _ L st h => match st with
  | .int y :: .int x :: r => (y ≤ x → jp t L r h) ∧ (¬ (y ≤ x) → nx L r h)
  | _ => False
theorem s_ic_ge {E : Et} {pc t : Nat} {off : Int} (hd : decode E.cc pc = .ok (.if_icmp .ge off, 3)) (ht : (pc : Int) + off = (t : Int)) : Snd E pc (w_ic_ge t) (pc + 3) := by
  intro X o nx jp K k1 k2 L st h hw
  unfold w_ic_ge at hw
  split at hw
  · intro H locs cells slots ls h1 h2 h3 h4 h5
    exact lv_icmp_ge o.1.1 o.1.2.1 hd ht (fun c => k2 _ _ _ _ (hw.1 c) H locs cells slots ls h1 h2 h3 h4 h5) (fun c => k1 _ _ _ (hw.2 c) H locs cells slots ls h1 h2 h3 h4 h5)
  · exact hw.elim
def w_if_gt (t : Nat) : Sm := fun _ _ _ nx jp _ L st h => match st with
  | .int x :: r => (0 < x → jp t L r h) ∧ (¬ (0 < x) → nx L r h)
  | _ => False
theorem s_if_gt {E : Et} {pc t : Nat} {off : Int} (hd : decode E.cc pc = .ok (.ifCond .gt off, 3)) (ht : (pc : Int) + off = (t : Int)) : Snd E pc (w_if_gt t) (pc + 3) := by
  intro X o nx jp K k1 k2 L st h hw
  unfold w_if_gt at hw
  split at hw
  · intro H locs cells slots ls h1 h2 h3 h4 h5
    exact lv_if_gt o.1.1 o.1.2.1 hd ht (fun c => k2 _ _ _ _ (hw.1 c) H locs cells slots ls h1 h2 h3 h4 h5) (fun c => k1 _ _ _ (hw.2 c) H locs cells slots ls h1 h2 h3 h4 h5)
  · exact hw.elim
def w_ic_gt (t : Nat) : Sm := fun _ _ _ nx jp _ L st h => match st with
  | .int y :: .int x :: r => (y < x → jp t L r h) ∧ (¬ (y < x) → nx L r h)
  | _ => False
theorem s_ic_gt {E : Et} {pc t : Nat} {off : Int} (hd : decode E.cc pc = .ok (.if_icmp .gt off, 3)) (ht : (pc : Int) + off = (t : Int)) : Snd E pc (w_ic_gt t) (pc + 3) := by
  intro X o nx jp K k1 k2 L st h hw
  unfold w_ic_gt at hw
  split at hw
  · intro H locs cells slots ls h1 h2 h3 h4 h5
    exact lv_icmp_gt o.1.1 o.1.2.1 hd ht (fun c => k2 _ _ _ _ (hw.1 c) H locs cells slots ls h1 h2 h3 h4 h5) (fun c => k1 _ _ _ (hw.2 c) H locs cells slots ls h1 h2 h3 h4 h5)
  · exact hw.elim
def w_if_le (t : Nat) : Sm := fun _ _ _ nx jp _ L st h => match st with
  | .int x :: r => (x ≤ 0 → jp t L r h) ∧ (¬ (x ≤ 0) → nx L r h)
  | _ => False
theorem s_if_le {E : Et} {pc t : Nat} {off : Int} (hd : decode E.cc pc = .ok (.ifCond .le off, 3)) (ht : (pc : Int) + off = (t : Int)) : Snd E pc (w_if_le t) (pc + 3) := by
  intro X o nx jp K k1 k2 L st h hw
  unfold w_if_le at hw
  split at hw
  · intro H locs cells slots ls h1 h2 h3 h4 h5
    exact lv_if_le o.1.1 o.1.2.1 hd ht (fun c => k2 _ _ _ _ (hw.1 c) H locs cells slots ls h1 h2 h3 h4 h5) (fun c => k1 _ _ _ (hw.2 c) H locs cells slots ls h1 h2 h3 h4 h5)
  · exact hw.elim
def w_ic_le (t : Nat) : Sm := fun _ _ _ nx jp _ L st h => match st with
  | .int y :: .int x :: r => (x ≤ y → jp t L r h) ∧ (¬ (x ≤ y) → nx L r h)
  | _ => False
theorem s_ic_le {E : Et} {pc t : Nat} {off : Int} (hd : decode E.cc pc = .ok (.if_icmp .le off, 3)) (ht : (pc : Int) + off = (t : Int)) : Snd E pc (w_ic_le t) (pc + 3) := by
  intro X o nx jp K k1 k2 L st h hw
  unfold w_ic_le at hw
  split at hw
  · intro H locs cells slots ls h1 h2 h3 h4 h5
    exact lv_icmp_le o.1.1 o.1.2.1 hd ht (fun c => k2 _ _ _ _ (hw.1 c) H locs cells slots ls h1 h2 h3 h4 h5) (fun c => k1 _ _ _ (hw.2 c) H locs cells slots ls h1 h2 h3 h4 h5)
  · exact hw.elim
def w_go (t : Nat) : Sm := fun _ _ _ _ jp _ L st h => jp t L st h
theorem s_go {E : Et} {pc t q : Nat} {off : Int} (hd : decode E.cc pc = .ok (.goto off, 3)) (ht : (pc : Int) + off = (t : Int)) : Snd E pc (w_go t) q := by
  intro X o nx jp K k1 k2 L st h hw
  intro H locs cells slots ls h1 h2 h3 h4 h5
  exact lv_goto o.1.1 o.1.2.1 hd ht (k2 _ _ _ _ hw H locs cells slots ls h1 h2 h3 h4 h5)
