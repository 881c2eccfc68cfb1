/-! a processor against the twin's: one step -/
set_option maxRecDepth 100000
theorem fsP_2 (P : Nat → Prop) (c : Prop) : fi c (fsP P) (Int32.ofInt (-1)) = Int32.ofInt (-1) ∨ ∃ j, j < 12 ∧ fi c (fsP P) (Int32.ofInt (-1)) = nI j := by
  by_cases z : c
  · rw [fi_pos z]
    exact fsP_r P
  · rw [fi_neg z]
    exact Or.inl rfl
theorem tkn_r (b : Int32) (x D W : Int64) : tkn b x D W = Int32.ofInt (-1) ∨ ∃ j, j < 12 ∧ tkn b x D W = nI j := by
  unfold tkn
  by_cases z : 0 ≤ fi (opn0 b x) (fsP (fun c => lb (W &&& (D ^^^ Int64.ofInt (-1))) c = true)) (Int32.ofInt (-1))
  · rw [fi_pos z]
    exact fsP_2 _ _
  · rw [fi_neg z]
    exact fsP_2 _ _
/-- what a trap of the twin's leaves alone -/
def Sx (N M : FM) : Prop := (N.2.1 316 = M.2.1 316 ∧ N.2.1 414 = M.2.1 414) ∧ N.1 3 = M.1 3 ∧ N.2.2 = M.2.2
theorem Sx.trans {N M X : FM} (k : Sx X N) (j : Sx N M) : Sx X M := ⟨⟨k.1.1.trans j.1.1, k.1.2.trans j.1.2⟩, k.2.1.trans j.2.1, k.2.2.trans j.2.2⟩
theorem s6L {M : FM} {f b i : Nat} {v : Int64} (hf : (316 : Nat) ≠ f ∧ (414 : Nat) ≠ f) : Sx (fm_sL M f b i v) M := ⟨⟨funext fun _ => funext fun _ => rLf hf.1, funext fun _ => funext fun _ => rLf hf.2⟩, rfl, rfl⟩
theorem s6I {M : FM} {f b i : Nat} {v : Int32} (hf : (3 : Nat) ≠ f) : Sx (fm_sI M f b i v) M := ⟨⟨rfl, rfl⟩, funext fun _ => funext fun _ => rIf hf, rfl⟩
theorem s6f {α : Type} {c : Prop} {x y : α × FM} {M : FM} (hx : Sx x.2 M) (hy : Sx y.2 M) : Sx (fi c x y).2 M := by
  by_cases z : c
  · rw [fi_pos z]
    exact hx
  · rw [fi_neg z]
    exact hy
theorem s6p {d : Nat} {x y : Int32} {M : FM} : Sx (GX100_put d x y M) M := s6L (by decide)
theorem s6b {x : Int64} {y z : Int32} {M : FM} : (GX100_beginning x y z M).2 = M := by
  unfold GX100_beginning GX100_beginning_0 GX100_beginning_31 GX100_beginning_33
  try dsimp only
  by_cases c : y = 0
  · rw [fi_pos c]
  · rw [fi_neg c]
    by_cases e : lg_cmp (x &&& Int64.ofInt 1) (Int64.ofInt 1) = 0
    · rw [fi_pos e]
    · rw [fi_neg e]
theorem s6_243 {d k n : Nat} {i c j : Int32} {M : FM} : Sx (GX100_trap_243 d i c k n j M).2 M := by
  unfold GX100_trap_243
  try dsimp only
  rw [s6b]
  exact s6L (by decide)
theorem s6_224 {d : Nat} {i c j : Int32} {M : FM} : Sx (GX100_trap_224 d i c j M).2 M := s6f s6_243 s6_243
theorem s6_139 {d : Nat} {i c j : Int32} {M : FM} : Sx (GX100_trap_139 d i c j M).2 M := by
  unfold GX100_trap_139
  refine s6f ?_ ?_
  · try dsimp only
    refine s6_224.trans ((s6I (by decide)).trans (s6p.trans (s6p.trans ?_)))
    exact s6p.trans s6p
  · try dsimp only
    refine s6_224.trans ((s6I (by decide)).trans (s6p.trans (s6p.trans ?_)))
    exact s6p
theorem s6_101 {d : Nat} {i c : Int32} {v p t : Int64} {j k : Int32} {M : FM} : Sx (GX100_trap_101 d i c v p t j k M).2 M := by
  unfold GX100_trap_101 GX100_trap_118 GX100_trap_129
  try dsimp only
  exact s6_139.trans ((s6L (by decide)).trans ((s6L (by decide)).trans (s6L (by decide))))
theorem s6_85 {d : Nat} {i c : Int32} {v p t : Int64} {j : Int32} {M : FM} : Sx (GX100_trap_85 d i c v p t j M).2 M := s6f s6_101 s6_101
theorem s6_70 {d k : Nat} {i c : Int32} {v p t : Int64} {j : Int32} {M : FM} : Sx (GX100_trap_70 d i c v p t k j M).2 M := s6f s6_85 s6_85
theorem s6_43 {d : Nat} {i c : Int32} {v p t : Int64} {M : FM} : Sx (GX100_trap_43 d i c v p t M).2 M := s6f s6_85 (s6f s6_70 s6_70)
theorem s6_16 {d k : Nat} {i c : Int32} {v p : Int64} {j : Int32} {M : FM} : Sx (GX100_trap_16 d i c v p k j M).2 M := by
  unfold GX100_trap_16
  try dsimp only
  exact s6f (s6f (s6_43.trans (s6I (by decide))) (s6_43.trans (s6I (by decide)))) (s6I (by decide))
theorem s6_t {d : Nat} {i c : Int32} {v p : Int64} {M : FM} : Sx (GX100_trap d i c v p M).2 M := s6f s6_16 (s6f s6_16 s6_16)
theorem s6_j {c : Nat} {v : Int64} {M : FM} : Sx (GX98_jump c v M) M := by
  unfold GX98_jump GX98_jump_0
  try dsimp only
  exact (s6I (by decide)).trans ((s6L (by decide)).trans (s6I (by decide)))
theorem st96_316 {m h sg c1 d1 : Nat} {M : FM} : Br m h sg (GX92_step_96 m c1 d1 M) M := by
  have k : Sx (GX92_step_96 m c1 d1 M) M := by
    unfold GX92_step_96 GX92_step_117 GX98_counter GX98_counter_0
    try dsimp only
    exact s6_j.trans (s6_t.trans (s6I (by decide)))
  refine ⟨congrFun (congrFun k.1.1 m) 0, congrFun (congrFun k.1.2 sg) 0, fun i _ => ?_⟩
  rw [k.2.2, k.2.1]
section St
variable {p h bd a fu rg u t hv kp fd m c1 f1 d1 w1 hq s dd x dk q rq r g sg bl cr np : Nat} {cf : Nat → Nat} {kn : Int32} {o : Option Wt} {fs : Fs} {B Bk Vv : Nat} {K : Rg} {F T : Nat → Nat} {rt : Int32} {tb : Int64} {S S' : List Nat} {Mc Mt Nc Nt : FM}
/-- an interrupt, both sides -/
theorem P_trap (R : RelP p h bd a fu cf rg u t hv kp fd m c1 f1 d1 w1 hq s dd x dk q rq r g sg bl cr np kn o fs B Bk Vv K F T rt tb Mc Mt) {c : Int32} {kc : Nat} (hc : ui c = kc) (hk : kc < 64) :
    HX100_trap d1 (Int32.ofInt 1) c (Int64.ofInt 0) (GX98_counter c1 Mt).1 (GX98_counter c1 Mt).2 ∧
    RelP p h bd a fu cf rg u t hv kp fd m c1 f1 d1 w1 hq s dd x dk q rq r g sg bl cr np kn none fs B Bk Vv K F T rt tb (GX47_jump a (GX74_trap u (Int32.ofInt 1) c (Int64.ofInt 0) (GX46_counter p Mc).1 (GX46_counter p Mc).2).1 (GX74_trap u (Int32.ofInt 1) c (Int64.ofInt 0) (GX46_counter p Mc).1 (GX46_counter p Mc).2).2)
      (GX98_jump c1 (GX100_trap d1 (Int32.ofInt 1) c (Int64.ofInt 0) (GX98_counter c1 Mt).1 (GX98_counter c1 Mt).2).1 (GX100_trap d1 (Int32.ofInt 1) c (Int64.ofInt 0) (GX98_counter c1 Mt).1 (GX98_counter c1 Mt).2).2) ∧
    RamQ r Mc (GX47_jump a (GX74_trap u (Int32.ofInt 1) c (Int64.ofInt 0) (GX46_counter p Mc).1 (GX46_counter p Mc).2).1 (GX74_trap u (Int32.ofInt 1) c (Int64.ofInt 0) (GX46_counter p Mc).1 (GX46_counter p Mc).2).2) ∧
    Br m h sg (GX98_jump c1 (GX100_trap d1 (Int32.ofInt 1) c (Int64.ofInt 0) (GX98_counter c1 Mt).1 (GX98_counter c1 Mt).2).1 (GX100_trap d1 (Int32.ofInt 1) c (Int64.ofInt 0) (GX98_counter c1 Mt).1 (GX98_counter c1 Mt).2).2) Mt := by
  have RR := relP_ram R
  have n94 := R.2.2.2.1.2.1
  have hp := R.2.2.2.1.2.2.2.1
  have v2 : Mc.2.2 211 p 0 = a := R.1.1.2.2.2.1
  have k1 : WK [345] Mt (fm_sI Mt 345 c1 0 (Int32.ofInt 0)) := WK_I RR.2.1.2.1 n94 rfl rfl _
  have T1 : Ty (fm_sI Mt 345 c1 0 (Int32.ofInt 0)) := ⟨RR.2.1.1.1, tyb_sI rfl RR.2.1.1.2⟩
  have R1 := relP_t k1 (by decide) T1 R
  have RR1 := relP_ram R1
  have ec : GX46_counter p Mc = (Mt.2.1 347 c1 0, Mc) := by
    unfold GX46_counter GX46_counter_0
    try dsimp only
    rw [v2, hp]
  have et : GX98_counter c1 Mt = (Mt.2.1 347 c1 0, fm_sI Mt 345 c1 0 (Int32.ofInt 0)) := rfl
  rw [ec, et]
  try dsimp only
  obtain ⟨t1, t2, RC2⟩ := rel_trap R1.2.2.2.2.1 (Int32.ofInt 1) c hc hk (Int64.ofInt 0) (Mt.2.1 347 c1 0)
  have nu := R1.2.2.2.2.1.1.2.1
  have nd := R1.2.2.2.2.1.2.1.2.1
  have gx := gX74_trap u (Int32.ofInt 1) c (Int64.ofInt 0) (Mt.2.1 347 c1 0) Mc RR1.1.1 nu
  have gy := gX100_trap d1 (Int32.ofInt 1) c (Int64.ofInt 0) (Mt.2.1 347 c1 0) (fm_sI Mt 345 c1 0 (Int32.ofInt 0)) T1 nd t1
  have kx : WK lX74_trap Mc (GX74_trap u (Int32.ofInt 1) c (Int64.ofInt 0) (Mt.2.1 347 c1 0) Mc).2 := wX74_trap (SL lX74_trap) (fun _ => True) (fun _ h => h) _ _ _ _ _ Mc (wi_N RR1.1.2.1) trivial _ gx.1
  have ky : WK lX100_trap (fm_sI Mt 345 c1 0 (Int32.ofInt 0)) (GX100_trap d1 (Int32.ofInt 1) c (Int64.ofInt 0) (Mt.2.1 347 c1 0) (fm_sI Mt 345 c1 0 (Int32.ofInt 0))).2 := wX100_trap (SL lX100_trap) (fun _ => True) (fun _ h => h) _ _ _ _ _ (fm_sI Mt 345 c1 0 (Int32.ofInt 0)) (wi_N RR1.2.1.2.1) trivial _ gy.1
  obtain ⟨R2, rq2⟩ := relP_u kx ky (by decide) (by decide) RC2.1.1 RC2.2.1.1 R1 RC2
  obtain ⟨R3, rq3, k3⟩ := P_jump R2 (GX74_trap u (Int32.ofInt 1) c (Int64.ofInt 0) (Mt.2.1 347 c1 0) Mc).1
  rw [← t2]
  exact ⟨t1, R3, ramQ_t rq2 rq3, ((b316 k3 (by decide) R2).trans (b316 ky (by decide) R1)).trans (b316 k1 (by decide) R)⟩
/-- how a step ends, both sides -/
def OutS (p h bd a fu : Nat) (cf : Nat → Nat) (rg u t hv kp fd m c1 f1 d1 w1 hq s dd x dk q rq r g sg bl cr np : Nat) (kn : Int32) (B Bk Vv : Nat) (Mc Mt Nc Nt : FM) : Prop :=
  ∃ (fs : Fs) (K : Rg) (F T : Nat → Nat) (rt : Int32) (tb : Int64), Evo r 2560020 Mc Nc ∧ fs.2.2.2.1 = Int32.ofInt 0 ∧ Br m h sg Nt Mt ∧
    RelP p h bd a fu cf rg u t hv kp fd m c1 f1 d1 w1 hq s dd x dk q rq r g sg bl cr np kn none fs (B + 1) (Bk + 2560020) (Vv + 1) K F T rt tb Nc Nt
/-- one more instruction, both sides -/
theorem P_count (R : RelP p h bd a fu cf rg u t hv kp fd m c1 f1 d1 w1 hq s dd x dk q rq r g sg bl cr np kn o fs B Bk Vv K F T rt tb Mc Mt) : RelP p h bd a fu cf rg u t hv kp fd m c1 f1 d1 w1 hq s dd x dk q rq r g sg bl cr np kn o fs B Bk Vv K F T rt tb (fm_sL Mc 41 (Mc.2.2 35 u 0) 0 (Mc.2.1 41 (Mc.2.2 35 u 0) 0 + Int64.ofInt 1)) (GX100_count d1 (Int64.ofInt 0) (Int64.ofInt 1) Mt) ∧
    RamQ r Mc (fm_sL Mc 41 (Mc.2.2 35 u 0) 0 (Mc.2.1 41 (Mc.2.2 35 u 0) 0 + Int64.ofInt 1)) ∧ Br m h sg (GX100_count d1 (Int64.ofInt 0) (Int64.ofInt 1) Mt) Mt := by
  have RR := relP_ram R
  have RC := R.2.2.2.2.1
  have e35 : Mc.2.2 35 u 0 = tbl Mc u 2818 := RC.1.2.2.1.2.2.1.2.2.2.2.2.2
  have n35 := tN_35 RR.1.1.1 RC.1.2.1
  have RC2 := rel_instr RC
  rw [← e35] at RC2
  have kx : WK [41] Mc (fm_sL Mc 41 (Mc.2.2 35 u 0) 0 (Mc.2.1 41 (Mc.2.2 35 u 0) 0 + Int64.ofInt 1)) := WK_L RR.1.2.1 n35 rfl rfl _
  have gy := gX100_count d1 (Int64.ofInt 0) (Int64.ofInt 1) Mt RR.2.1.1 RC.2.1.2.1
  have ky : WK lX100_count Mt (GX100_count d1 (Int64.ofInt 0) (Int64.ofInt 1) Mt) := wX100_count (SL lX100_count) (fun _ => True) (fun _ h => h) d1 _ _ Mt (wi_N RR.2.1.2.1) trivial _ gy.1
  obtain ⟨R2, rq2⟩ := relP_u kx ky (by decide) (by decide) RC2.1.1 RC2.2.1.1 R RC2
  exact ⟨R2, rq2, b316 ky (by decide) R⟩
/-- a step that isn't waited away -/
theorem P_step24 (R : RelP p h bd a fu cf rg u t hv kp fd m c1 f1 d1 w1 hq s dd x dk q rq r g sg bl cr np kn none fs B Bk Vv K F T rt tb Mc Mt) (To : Told d1 rt tb Mt) (hw : fs.2.2.2.1 = Int32.ofInt 0) (Gd : GdC g Mc) (hB : Bk + 16 < 9223372036854775808) (hB' : B < 2147483000) (hV : Vv < 2147483648) :
    HX46_step_24 p Mc ∧ HX92_step_36 m (nI h) c1 d1 Mt ∧ OutS p h bd a fu cf rg u t hv kp fd m c1 f1 d1 w1 hq s dd x dk q rq r g sg bl cr np kn B Bk Vv Mc Mt (GX46_step_24 p Mc) (GX92_step_36 m (nI h) c1 d1 Mt) := by
  have RR := relP_ram R
  obtain ⟨y0, y1, y2, y3, ⟨y4, y5⟩, ⟨y6, y7⟩, ⟨y8, y9⟩, ⟨ya, yb⟩, yc⟩ := R.2.1.1
  have hcl : (nI h).toNatClampNeg = h := o_cl (by omega)
  have in7 : fm_in Mt (Mt.2.2 307 m 0) (nI h) = true := in_nI yc (by omega) (by decide)
  have v4 : Mc.2.2 213 p 0 = u := R.1.1.2.2.2.2.2.1
  -- it waits no more
  obtain ⟨R1, rq1, k1⟩ := P_park R (b := Int32.ofInt 0) (Or.inl rfl)
  have To1 := told_k k1 (by decide) RR.2.1.1 RR.2.1.2.1 R.2.2.2.2.1.2.1.2.1 To
  have b1 : Br m h sg (fm_sI Mt 3 (Mt.2.2 307 m 0) h (Int32.ofInt 0 &&& 1)) Mt := br_pk
  have kc1 : WK [218] Mc (fm_sI Mc 218 p 0 (Int32.ofInt 0)) := WK_I RR.1.2.1 R.1.1.1 rfl rfl _
  obtain ⟨rt0, tb0, VC⟩ := R.2.2.2.2.2.2.1.1
  have ng : fm_is Mc 90 90 g = true := by
    have := tN_288 RR.1.1.1 VC.2.2.1
    rw [VC.2.2.2.2.1] at this
    exact this
  have Gd1 := gdC_k kc1 (by decide) RR.1.1 RR.1.2.1 ng Gd
  have ng1 : fm_is (fm_sI Mc 218 p 0 (Int32.ofInt 0)) 90 90 g = true := ng
  generalize hX1 : fm_sI Mc 218 p 0 (Int32.ofInt 0) = X1 at *
  generalize hY1 : fm_sI Mt 3 (Mt.2.2 307 m 0) h (Int32.ofInt 0 &&& 1) = Y1 at *
  have RR1 := relP_ram R1
  have v4' : X1.2.2 213 p 0 = u := R1.1.1.2.2.2.2.2.1
  have v2' : X1.2.2 211 p 0 = a := R1.1.1.2.2.2.1
  have nd1 := R1.2.2.2.2.1.2.1.2.1
  -- the interrupts
  obtain ⟨p1_, p2_⟩ := c_taken R1.2.2.2.2.1
  obtain ⟨q1_, q2_⟩ := t_taken R1.2.2.2.2.1
  have hr := tkn_r (Y1.1 360 d1 0) (ht Y1 d1 768) (ht Y1 d1 771) ((ht Y1 d1 836 ||| X1.2.1 43 (tbl X1 u 836) 0) &&& ht Y1 d1 772)
  generalize tkn (Y1.1 360 d1 0) (ht Y1 d1 768) (ht Y1 d1 771) ((ht Y1 d1 836 ||| X1.2.1 43 (tbl X1 u 836) 0) &&& ht Y1 d1 772) = cc at *
  have k2 : WK [358] Y1 (fm_sI Y1 358 d1 0 (Int32.ofInt 0)) := WK_I RR1.2.1.2.1 nd1 rfl rfl _
  have T2 : Ty (fm_sI Y1 358 d1 0 (Int32.ofInt 0)) := ⟨RR1.2.1.1.1, tyb_sI rfl RR1.2.1.1.2⟩
  have R2 := relP_t k2 (by decide) T2 R1
  have To2 := told_k k2 (by decide) RR1.2.1.1 RR1.2.1.2.1 nd1 To1
  have b2 := (b316 k2 (by decide) R1).trans b1
  generalize hY2 : fm_sI Y1 358 d1 0 (Int32.ofInt 0) = Y2 at *
  have UG : GX46_step_24 p Mc = fi (cc < 0) (fi ((GX46_fetch p X1).1 = 0) (GX46_fetch p X1).2 (fi ((GX46_execute p (GX46_fetch p X1).2).1 = 0) (GX46_execute p (GX46_fetch p X1).2).2
      (fm_sL (GX46_execute p (GX46_fetch p X1).2).2 41 ((GX46_execute p (GX46_fetch p X1).2).2.2.2 35 ((GX46_execute p (GX46_fetch p X1).2).2.2.2 213 p 0) 0) 0 ((GX46_execute p (GX46_fetch p X1).2).2.2.1 41 ((GX46_execute p (GX46_fetch p X1).2).2.2.2 35 ((GX46_execute p (GX46_fetch p X1).2).2.2.2 213 p 0) 0) 0 + Int64.ofInt 1))))
      (GX47_jump a (GX74_trap u (Int32.ofInt 1) cc (Int64.ofInt 0) (GX46_counter p X1).1 (GX46_counter p X1).2).1 (GX74_trap u (Int32.ofInt 1) cc (Int64.ofInt 0) (GX46_counter p X1).1 (GX46_counter p X1).2).2) := by
    unfold GX46_step_24 GX46_step_95
    try dsimp only
    rw [hX1, v4', p2_]
    try dsimp only
    rw [v4', v2']
  have UT : GX92_step_36 m (nI h) c1 d1 Mt = fi (cc < 0) (fi ((GX92_fetch m (nI h) Y2).1 = 0) (GX92_step_96 m c1 d1 (GX92_fetch m (nI h) Y2).2) (fi ((GX92_carries m (nI h) (GX92_fetch m (nI h) Y2).2).1 = 0) (GX92_step_96 m c1 d1 (GX92_carries m (nI h) (GX92_fetch m (nI h) Y2).2).2)
      (GX100_count d1 (Int64.ofInt 0) (Int64.ofInt 1) (GX92_carries m (nI h) (GX92_fetch m (nI h) Y2).2).2)))
      (GX98_jump c1 (GX100_trap d1 (Int32.ofInt 1) cc (Int64.ofInt 0) (GX98_counter c1 Y2).1 (GX98_counter c1 Y2).2).1 (GX100_trap d1 (Int32.ofInt 1) cc (Int64.ofInt 0) (GX98_counter c1 Y2).1 (GX98_counter c1 Y2).2).2) := by
    unfold GX92_step_36 GX92_step_117
    try dsimp only
    rw [hcl, hY1, q2_]
  have VH : ((cc < 0 → HX46_fetch p X1 ∧ (¬ (GX46_fetch p X1).1 = 0 → HX46_execute p (GX46_fetch p X1).2)) ∧ (¬ cc < 0 → True)) → HX46_step_24 p Mc := fun z => by
    unfold HX46_step_24
    try dsimp only
    rw [hX1, v4', p2_]
    exact ⟨p1_, fun y => ⟨(z.1 y).1, fun _ => trivial, fun v => ⟨(z.1 y).2 v, trivial⟩⟩, fun _ => trivial⟩
  have VT : ((cc < 0 → HX92_fetch m (nI h) Y2 ∧ ((GX92_fetch m (nI h) Y2).1 = 0 → HX92_step_96 m c1 d1 (GX92_fetch m (nI h) Y2).2) ∧ (¬ (GX92_fetch m (nI h) Y2).1 = 0 → HX92_carries m (nI h) (GX92_fetch m (nI h) Y2).2 ∧
      ((GX92_carries m (nI h) (GX92_fetch m (nI h) Y2).2).1 = 0 → HX92_step_96 m c1 d1 (GX92_carries m (nI h) (GX92_fetch m (nI h) Y2).2).2))) ∧
      (¬ cc < 0 → HX100_trap d1 (Int32.ofInt 1) cc (Int64.ofInt 0) (GX98_counter c1 Y2).1 (GX98_counter c1 Y2).2)) → HX92_step_36 m (nI h) c1 d1 Mt := fun z => by
    unfold HX92_step_36
    try dsimp only
    rw [hcl, hY1, q2_]
    exact ⟨in7, q1_, fun y => ⟨(z.1 y).1, (z.1 y).2.1, fun v => ⟨((z.1 y).2.2 v).1, ((z.1 y).2.2 v).2, fun _ => trivial⟩⟩, fun y => ⟨z.2 y, trivial⟩⟩
  have ev1 : Evo r 0 Mc X1 := evo_q' (evo_r r 0 Mc) rq1
  by_cases c0 : cc < 0
  · rw [UG, UT, fi_pos c0, fi_pos c0]
    obtain ⟨l1, l2, Nc, Nt, E, kc, kt, out⟩ := P_fetch R2 To2 (by omega) hV
    have b3 := (b316 kt (by decide) R2).trans b2
    rcases out with ⟨f1_, f2_, hg, nz, R3, To3⟩ | ⟨f1_, f2_, i1, i2, i3, i4, R3⟩ | ⟨f1_, f2_, i1, R3⟩
    · have Gd3 := gdC_k kc (by decide) RR1.1.1 RR1.1.2.1 ng1 Gd1
      obtain ⟨x1, x2, fs', K', F', T', Xc, Xt, E4, hw4, b4, out4⟩ := P_exec R3 To3 hw Gd3 hg nz (by omega) hB' hV
      have b5 := b4.trans b3
      have E5 : Evo r 2560012 Mc Xc := evo_w (evo_t (evo_t ev1 E) E4) (by omega)
      rw [f1_, f2_]
      try dsimp only
      rw [fi_neg (show ¬ (Int32.ofInt 1 : Int32) = 0 by decide), fi_neg (show ¬ (Int32.ofInt 1 : Int32) = 0 by decide)]
      rcases out4 with ⟨g1_, g2_, R5⟩ | ⟨g1_, g2_, j1, R5⟩
      · obtain ⟨R6, rq6, b6⟩ := P_count R5
        refine ⟨VH ⟨fun _ => ⟨l1, fun _ => by rw [f1_]; exact x1⟩, fun _ => trivial⟩, VT ⟨fun _ => ⟨l2, fun y => absurd y (by rw [f2_]; exact (show ¬ Int32.ofInt 1 = (0 : Int32) by decide)), fun _ => ?_⟩, fun y => absurd c0 y⟩, ?_⟩
        · rw [f2_]
          try dsimp only
          exact ⟨x2, fun y => absurd y (by rw [g2_]; exact (show ¬ Int32.ofInt 1 = (0 : Int32) by decide))⟩
        · rw [g1_, g2_]
          try dsimp only
          rw [fi_neg (show ¬ (Int32.ofInt 1 : Int32) = 0 by decide), fi_neg (show ¬ (Int32.ofInt 1 : Int32) = 0 by decide), show Xc.2.2 213 p 0 = u from R5.1.1.2.2.2.2.2.1]
          exact ⟨fs', K', F', T', rt, tb, evo_w (evo_q' E5 rq6) (by omega), hw4, b6.trans b5, relP_upw (by omega) (by omega) (by omega) R6⟩
      · refine ⟨VH ⟨fun _ => ⟨l1, fun _ => by rw [f1_]; exact x1⟩, fun _ => trivial⟩, VT ⟨fun _ => ⟨l2, fun y => absurd y (by rw [f2_]; exact (show ¬ Int32.ofInt 1 = (0 : Int32) by decide)), fun _ => ?_⟩, fun y => absurd c0 y⟩, ?_⟩
        · rw [f2_]
          try dsimp only
          exact ⟨x2, fun y => by rw [g2_]; exact j1⟩
        · rw [g1_, g2_]
          try dsimp only
          rw [fi_pos (show (Int32.ofInt 0 : Int32) = 0 from rfl), fi_pos (show (Int32.ofInt 0 : Int32) = 0 from rfl)]
          exact ⟨fs', K', F', T', rt, tb, evo_w E5 (by omega), hw4, st96_316.trans b5, relP_upw (by omega) (by omega) (by omega) R5⟩
    · -- no instruction: the component finds it while running, the twin while fetching
      obtain ⟨Xc, Xt, r1, ⟨r2, r3⟩, R4, r4, r5⟩ := P_raise R3 (c := Int32.ofInt 2) (kc := 2) rfl (by decide) (illV (Nc.1 221 p 0) (Nc.1 220 p 0)) i3 i4
      have ex : GX46_execute p Nc = (Int32.ofInt 0, Xc) := by
        unfold GX46_execute GX46_execute_0
        try dsimp only
        rw [fi_pos i1, fi_pos i2, illV_e, r1]
      have hx : HX46_execute p Nc := ⟨fun _ => ⟨fun _ => trivial, fun y => absurd i2 y⟩, fun y => absurd i1 y⟩
      have rq4 : RamQ r Nc Xc := (wrR r4 (WK_r (S := []) (relP_ram R3).2.1.2.1) (by decide) (by decide) (relP_ram R4).1.1 (relP_ram R3).2.1.1 (relP_ram R3)).2.1
      refine ⟨VH ⟨fun _ => ⟨l1, fun _ => by rw [f1_]; exact hx⟩, fun _ => trivial⟩, VT ⟨fun _ => ⟨l2, fun _ => by rw [f2_]; exact r2, fun y => absurd (show (GX92_fetch m (nI h) Y2).1 = 0 by rw [f2_]; rfl) y⟩, fun y => absurd c0 y⟩, ?_⟩
      rw [f1_, f2_]
      try dsimp only
      rw [fi_neg (show ¬ (Int32.ofInt 1 : Int32) = 0 by decide), fi_pos (show (Int32.ofInt 0 : Int32) = 0 from rfl), ex, r3]
      try dsimp only
      rw [fi_pos (show (Int32.ofInt 0 : Int32) = 0 from rfl)]
      exact ⟨fs, K, F, T, rt, tb, evo_w (evo_q' (evo_t ev1 E) rq4) (by omega), hw, (b316 r5 (by decide) R3).trans b3, relP_upw (by omega) (by omega) (by omega) R4⟩
    · refine ⟨VH ⟨fun _ => ⟨l1, fun y => absurd (show (GX46_fetch p X1).1 = 0 by rw [f1_]; rfl) y⟩, fun _ => trivial⟩, VT ⟨fun _ => ⟨l2, fun _ => by rw [f2_]; exact i1, fun y => absurd (show (GX92_fetch m (nI h) Y2).1 = 0 by rw [f2_]; rfl) y⟩, fun y => absurd c0 y⟩, ?_⟩
      rw [f1_, f2_]
      try dsimp only
      rw [fi_pos (show (Int32.ofInt 0 : Int32) = 0 from rfl), fi_pos (show (Int32.ofInt 0 : Int32) = 0 from rfl)]
      exact ⟨fs, K, F, T, rt, tb, evo_w (evo_t ev1 E) (by omega), hw, st96_316.trans b3, relP_upw (by omega) (by omega) (by omega) R3⟩
  · rw [UG, UT, fi_neg c0, fi_neg c0]
    obtain ⟨j, hj, e⟩ : ∃ j, j < 12 ∧ cc = nI j := by
      rcases hr with e | e
      · exact absurd (by rw [e]; decide) c0
      · exact e
    obtain ⟨t1, R3, rq3, b3⟩ := P_trap R2 (c := cc) (kc := j) (by rw [e, ui_nI]; omega) (by omega)
    exact ⟨VH ⟨fun y => absurd y c0, fun _ => trivial⟩, VT ⟨fun y => absurd y c0, fun _ => t1⟩, fs, K, F, T, rt, tb, evo_w (evo_q' ev1 rq3) (by omega), hw, b3.trans b2, relP_upw (by omega) (by omega) (by omega) R3⟩
end St
