/-! a processor against the twin's: floats -/
set_option maxRecDepth 100000
section Fg
variable {p h bd a fu rg u t hv kp fd m c1 f1 d1 w1 hq s dd x dk q rq r g sg bl cr np : Nat} {cf : Nat → Nat} {kn : Int32} {o : Option Wt} {w : Wt} {fs : Fs} {B Bk Vv : Nat} {K : Rg} {F T : Nat → Nat} {rt : Int32} {tb : Int64} {S S' : List Nat} {Mc Mt Nc Nt X : FM} {z k : Nat} {ad v : Int64} {ac md : Int32}
theorem tw13_k (k : WK S' Mt Nt) (hd : dj [361, 1361] S' = true) (R : RelP p h bd a fu cf rg u t hv kp fd m c1 f1 d1 w1 hq s dd x dk q rq r g sg bl cr np kn o fs B Bk Vv K F T rt tb Mc Mt) : ht Nt d1 768 = ht Mt d1 768 := by
  have T0 := (relP_ram R).2.1.1
  have W := (relP_ram R).2.1.2.1
  have n := R.2.2.2.2.1.2.1.2.1
  have n1 := tN_361 T0.1 n
  unfold ht
  rw [(kf (f := 361) k rfl (dj_n hd 361 rfl) (wf_lt W (fm_ist rfl n))).2.2, (ka k (sS_361 W n) (wf_n0 W (fm_ist rfl n1)) (dj_n hd 1361 rfl) (wf_lt W (fm_ist rfl n1))).2.1]
theorem got_k (kc : WK S Mc Nc) (kt : WK S' Mt Nt) (hc : dj [219, 220, 221] S = true) (hd : dj [317, 318, 319] S' = true) (R : RelP p h bd a fu cf rg u t hv kp fd m c1 f1 d1 w1 hq s dd x dk q rq r g sg bl cr np kn o fs B Bk Vv K F T rt tb Mc Mt) (G : Got p m Mc Mt) : Got p m Nc Nt := by
  have RR := relP_ram R
  have lp := wf_lt RR.1.2.1 (fm_ist rfl R.1.1.1)
  have lm := wf_lt RR.2.1.2.1 (fm_ist rfl R.2.1.1.1)
  unfold Got
  rw [(kf (f := 219) kc rfl (dj_n hc 219 rfl) lp).1, (kf (f := 220) kc rfl (dj_n hc 220 rfl) lp).1, (kf (f := 221) kc rfl (dj_n hc 221 rfl) lp).1, (kf (f := 317) kt rfl (dj_n hd 317 rfl) lm).1, (kf (f := 318) kt rfl (dj_n hd 318 rfl) lm).1, (kf (f := 319) kt rfl (dj_n hd 319 rfl) lm).2.1]
  exact G
/-- what was written is marked -/
theorem flo_110 (R : RelP p h bd a fu cf rg u t hv kp fd m c1 f1 d1 w1 hq s dd x dk q rq r g sg bl cr np kn o fs B Bk Vv K F T rt tb Mc Mt) (h13 : ¬ tw (ht Mt d1 768) 13 = 0) (hwr : fs.2.2.2.1 = 0 ∨ fs.2.2.2.1 = Int32.ofInt 1) (v : Int32) :
    ∃ X Y fs', GX46_floating_110 p v Mc = (v, X) ∧ (HX92_floating_185 m (nI h) f1 Mt ∧ GX92_floating_185 m (nI h) f1 Mt = (Int32.ofInt 1, Y)) ∧ RelP p h bd a fu cf rg u t hv kp fd m c1 f1 d1 w1 hq s dd x dk q rq r g sg bl cr np kn o fs' B Bk Vv K F T rt tb X Y ∧ fs'.2.2.2.1 = Int32.ofInt 0 ∧ RamQ r Mc X ∧ Br m h sg Y Mt := by
  have RR := relP_ram R
  have v3 : Mc.2.2 212 p 0 = fu := R.1.1.2.2.2.2.1
  have v4 : Mc.2.2 213 p 0 = u := R.1.1.2.2.2.2.2.1
  obtain ⟨oc, ot, vc, vt, vi⟩ := id R.2.2.2.2.2.1
  have n96 := ot.2.1
  have k1 : WK [366] Mt (fm_sI Mt 366 f1 0 (Int32.ofInt 0)) := WK_I RR.2.1.2.1 n96 rfl rfl _
  have T1 : Ty (fm_sI Mt 366 f1 0 (Int32.ofInt 0)) := ⟨RR.2.1.1.1, tyb_sI rfl RR.2.1.1.2⟩
  have R1 := relP_t k1 (by decide) T1 R
  have eC := X59_isWritten oc vc
  have eT := (t_told vt).2.2.1
  rcases hwr with hw | hw
  · rw [hw] at eC eT
    refine ⟨Mc, fm_sI Mt 366 f1 0 (Int32.ofInt 0), fs, ?_, ⟨?_, ?_⟩, R1, hw, ramQ_r RR.1, ⟨rfl, rfl, fun _ _ => rfl⟩⟩
    · unfold GX46_floating_110 GX46_floating_140
      try dsimp only
      rw [v3, eC]
      try dsimp only
      rw [fi_pos (show (0 : Int32) = 0 from rfl)]
    · unfold HX92_floating_185
      try dsimp only
      rw [eT]
      exact ⟨fun _ => trivial, fun q => absurd rfl q⟩
    · unfold GX92_floating_185 GX92_floating_207
      try dsimp only
      rw [eT]
      try dsimp only
      rw [fi_pos (show (0 : Int32) = 0 from rfl)]
  · rw [hw] at eC eT
    have n1 : ¬ Int32.ofInt 1 = 0 := by decide
    have RR1 := relP_ram R1
    have RC1 := R1.2.2.2.2.1
    have h13' : ¬ tw (ht (fm_sI Mt 366 f1 0 (Int32.ofInt 0)) d1 768) 13 = 0 := h13
    have e27 : Mc.2.2 27 u 0 = tbl Mc u 768 := RC1.1.2.2.1.2.2.1.1
    have RC2 := rel_dirty RC1 h13'
    obtain ⟨y0, y1, y2, y3, ⟨y4, y5⟩, ⟨y6, y7⟩, ⟨y8, y9⟩, ⟨ya, yb⟩, yc⟩ := R1.2.1.1
    have hcl : (nI h).toNatClampNeg = h := o_cl (by omega)
    have n16 : fm_is Mc 16 16 (tbl Mc u 768) = true := by
      try dsimp only
      rw [← e27]
      exact tN_27 RR.1.1.1 RC1.1.2.1
    have g1 := gX78_putTwo (tbl Mc u 768) (Int32.ofInt 13) (Int32.ofInt 3) Mc RR.1.1 n16
    have g2 := gX100_dirty d1 (fm_sI Mt 366 f1 0 (Int32.ofInt 0)) T1 RC1.2.1.2.1
    have kc : WK lX78_putTwo Mc (GX78_putTwo (tbl Mc u 768) (Int32.ofInt 13) (Int32.ofInt 3) Mc) := wX78_putTwo (SL lX78_putTwo) (fun _ => True) (fun _ h => h) _ _ _ Mc (wi_N RR.1.2.1) trivial _ g1.1
    have kt : WK lX100_dirty (fm_sI Mt 366 f1 0 (Int32.ofInt 0)) (GX100_dirty d1 (fm_sI Mt 366 f1 0 (Int32.ofInt 0))) := wX100_dirty (SL lX100_dirty) (fun _ => True) (fun _ h => h) _ (fm_sI Mt 366 f1 0 (Int32.ofInt 0)) (wi_N k1.1.1) trivial _ g2.1
    obtain ⟨R2, rq2⟩ := relP_u kc kt (by decide) (by decide) g1.2.1 g2.2.1 R1 RC2
    obtain ⟨oc2, ot2, vc2, vt2, vi2⟩ := id R2.2.2.2.2.2.1
    have RR2 := relP_ram R2
    obtain ⟨f1_, f2_⟩ := X59_calm oc2 vc2
    obtain ⟨f3_, f4_⟩ := X99_calm ot2 vt2
    have g3 := gX59_calm fu _ RR2.1.1 oc2.1.2.1
    have g4 := gX99_calm f1 _ RR2.2.1.1 ot2.2.1
    have kc3 := wX59_calm (SL lX59_calm) (fun _ => True) (fun _ h => h) fu _ (wi_N RR2.1.2.1) trivial _ g3.1
    have kt3 := wX99_calm (SL lX99_calm) (fun _ => True) (fun _ h => h) f1 _ (wi_N RR2.2.1.2.1) trivial _ g4.1
    have RF3 : RelF fu cf rg f1 (GX59_calm fu (GX78_putTwo (tbl Mc u 768) (Int32.ofInt 13) (Int32.ofInt 3) Mc)) (GX99_calm f1 (GX100_dirty d1 (fm_sI Mt 366 f1 0 (Int32.ofInt 0)))) (sCalm fs) := ⟨flU_f oc2 f1_, flO_T ot2 f3_, f2_, f4_, vi2⟩
    obtain ⟨R3, rq3⟩ := relP_f (S := lX59_calm) (S' := lX99_calm) kc3 kt3 (by decide) (by decide) g3.2.1 g4.2.1 R2 RF3
    have v3' : (GX78_putTwo (tbl Mc u 768) (Int32.ofInt 13) (Int32.ofInt 3) Mc).2.2 212 p 0 = fu := R2.1.1.2.2.2.2.1
    refine ⟨_, _, sCalm fs, ?_, ⟨?_, ?_⟩, R3, rfl, ramQ_t rq2 rq3, (b316 (S' := lX99_calm) kt3 (by decide) R2).trans ((b316 kt (by decide) R1).trans ⟨rfl, rfl, fun _ _ => rfl⟩)⟩
    · unfold GX46_floating_110 GX46_floating_140
      try dsimp only
      rw [v3, eC]
      try dsimp only
      rw [fi_neg n1, v4, e27, v3']
    · unfold HX92_floating_185
      try dsimp only
      rw [eT]
      refine ⟨fun q => absurd q n1, fun _ => ?_⟩
      try dsimp only
      rw [hcl, y9]
      exact ⟨in_nI y8 (by omega) (by decide), RC1.2.1.2.1, trivial⟩
    · unfold GX92_floating_185 GX92_floating_207
      try dsimp only
      rw [eT]
      try dsimp only
      rw [fi_neg n1, hcl, y9]
/-- the number of the register that is stored: both sides -/
theorem rsgC (w : Int32) : ((w.toUInt32 >>> ((Int32.ofInt 20).toUInt32 &&& Int32.toUInt32 31)).toInt32 &&& Int32.ofInt 31) = nI (ui w / 1048576 % 32) := by
  apply ui_inj
  rw [ui_and, ui_ushr, show ui (Int32.ofInt 31) = 2 ^ 5 - 1 from rfl, Nat.and_two_pow_sub_one_eq_mod, ui_nI, show ui (Int32.ofInt 20) % 32 = 20 from rfl]
  omega
theorem rsgT (w : Int32) : ((w >>> (Int32.ofInt 20 &&& 31)) &&& Int32.ofInt 31) = nI (ui w / 1048576 % 32) := by
  apply ui_inj
  rw [ui_and, show ui (Int32.ofInt 31) = 2 ^ 5 - 1 from rfl, Nat.and_two_pow_sub_one_eq_mod, ui_nI]
  have l := ui_lt w
  by_cases c : ui w < 2147483648
  · rw [ui_sar0 w _ c, show ui (Int32.ofInt 20) % 32 = 20 from rfl]
    omega
  · rw [ui_sar1 w _ (by omega), show ui (Int32.ofInt 20) % 32 = 20 from rfl]
    omega
end Fg
