/-! one instruction as a contract -/
section
variable {G : Gt} {B d : Nat} {h : AH} {l : List Nat} {o : Lc} {wi W A q BA X tt lim SP t : Nat} {snd : Int64} {MA : Ma} {s : Ms} {K : Outcome → AH → Prop} {fs : Nat} {st : Lw} {Lf : Nat → Lw} {RN : Nat → Int32}
theorem inst_mw {Wd' : Wd} {D : Nat → Nat} {CM RT RH RL : Nat} (H : IPR G B h A W q BA X tt snd lim SP wi MA l o s) (hat : ∀ j, j < s.1 → MA.2.2.1 j = (s.2.1 j).2.1) (hy : WHY h A CM MA Wd') (hcl : ∀ n m, Wd' n = some m → (mcs m).length ≤ 2048) (hW : WV Wd') (hDp : DW Wd' D) (hE : EVW Wd' (vew st Lf fs tt)) (hp : PIq Wd' lim snd s) (hDg : ∀ h2, Fr (IP W) h h2 → DGR G h2 A) (wd : WRD h o A W BA tt MA fs st Lf RN) (tx : TXS h X RT RH RL) (oth : OTH G B o wi) (hd : 72 ≤ d) (wt : WTK K G B h A W q BA X tt snd lim SP wi o RT RH RL Lf fs) (kO : ∀ s2, mstp Wd' snd lim (vew st Lf fs tt) s = some (.ok s2) → ∀ h' l' o' MA', OUT wi W h h' o o' → IPR G B h' A W q BA X tt snd lim SP wi MA' l' o' s2 → MAX (ens s).length MA MA' (plc s2) (sco Lf RN fs tt) → (∀ j, j < s2.1 → MA'.2.2.1 j = (s2.2.1 j).2.1) → K (.returned none) h') (kE : ∀ e, mstp Wd' snd lim (vew st Lf fs tt) s = some (.error e) → STK K G B h A W q BA X tt snd lim SP wi MA o (ens s).length (sco Lf RN fs tt) RT RH RL e) : MW G d e_X1_instruction [.ref A] h K := by
  refine st_X1_instruction fun XX oo hG hD _ => ?_
  subst hG; subst hD
  exact inst_ok oo H hat hy hcl hW hDp hE hp hDg wd tx oth hd wt kO kE
end
