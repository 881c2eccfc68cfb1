/-! a processor against the twin's: back from exceptions, waiting -/
set_option maxRecDepth 100000
section Sy
variable {p h bd a fu rg u t hv kp fd m c1 f1 d1 w1 hq s dd x dk q rq r g sg bl cr np : Nat} {cf : Nat → Nat} {kn : Int32} {o : Option Wt} {w : Wt} {fs fs' : Fs} {B Bk Vv : Nat} {K : Rg} {F T : Nat → Nat} {rt : Int32} {tb : Int64} {S S' : List Nat} {Mc Mt Nc Nt : FM} {n : Nat}
theorem P_jump (R : RelP p h bd a fu cf rg u t hv kp fd m c1 f1 d1 w1 hq s dd x dk q rq r g sg bl cr np kn o fs B Bk Vv K F T rt tb Mc Mt) (v : Int64) : RelP p h bd a fu cf rg u t hv kp fd m c1 f1 d1 w1 hq s dd x dk q rq r g sg bl cr np kn none fs B Bk Vv K F T rt tb (GX47_jump a v Mc) (GX98_jump c1 v Mt) ∧ RamQ r Mc (GX47_jump a v Mc) ∧ WK lX98_jump Mt (GX98_jump c1 v Mt) := by
  have RR := relP_ram R
  have RI := R.2.2.2.1
  have gj := gX47_jump a v Mc RR.1.1 RI.1.1
  have gk := gX98_jump c1 v Mt RR.2.1.1 RI.2.1
  have kj : WK lX47_jump Mc (GX47_jump a v Mc) := wX47_jump (SL lX47_jump) (fun _ => True) (fun _ h => h) a v Mc (wi_N RR.1.2.1) trivial _ gj.1
  have kk : WK lX98_jump Mt (GX98_jump c1 v Mt) := wX98_jump (SL lX98_jump) (fun _ => True) (fun _ h => h) c1 v Mt (wi_N RR.2.1.2.1) trivial _ gk.1
  obtain ⟨R2, rq⟩ := relP_i kj kk (by decide) (by decide) gj.2.1 gk.2.1 R (ev_jump v R.2.1.2.2) (rel_ijump RR.1.1 RI v)
  exact ⟨R2, rq, kk⟩
theorem P_back {b : Int32} (R : RelP p h bd a fu cf rg u t hv kp fd m c1 f1 d1 w1 hq s dd x dk q rq r g sg bl cr np kn o fs B Bk Vv K F T rt tb Mc Mt) (hw : fs.2.2.2.1 = Int32.ofInt 0) (hg : Got p m Mc Mt) (hb : b = 0 ∨ b = 1) :
    HX92_back m (nI h) b Mt ∧ OutP p h bd a fu cf rg u t hv kp fd m c1 f1 d1 w1 hq s dd x dk q rq r g sg bl cr np kn B Bk Vv rt tb Mc Mt (GX46_back p b Mc) (GX92_back m (nI h) b Mt) := by
  have RR := relP_ram R
  obtain ⟨y0, y1, y2, y3, ⟨y4, y5⟩, ⟨y6, y7⟩, ⟨y8, y9⟩, ⟨ya, yb⟩, yc⟩ := R.2.1.1
  have hcl : (nI h).toNatClampNeg = h := o_cl (by omega)
  have in5 : fm_in Mt (Mt.2.2 305 m 0) (nI h) = true := in_nI y8 (by omega) (by decide)
  have nd := R.2.2.2.2.1.2.1.2.1
  have nu := R.2.2.2.2.1.1.2.1
  have v4 : Mc.2.2 213 p 0 = u := R.1.1.2.2.2.2.2.1
  obtain ⟨b1, e1, RC, e39, e01⟩ := rel_back R.2.2.2.2.1 hb
  have ga := gX74_back u b Mc RR.1.1 nu
  have gb := gX100_back d1 b Mt RR.2.1.1 nd b1
  have kc : WK lX74_back Mc (GX74_back u b Mc).2 := wX74_back (SL lX74_back) (fun _ => True) (fun _ h => h) u b Mc (wi_N RR.1.2.1) trivial _ ga.1
  have kt : WK lX100_back Mt (GX100_back d1 b Mt).2 := wX100_back (SL lX100_back) (fun _ => True) (fun _ h => h) d1 b Mt (wi_N RR.2.1.2.1) trivial _ gb.1
  obtain ⟨R2, rq2⟩ := relP_u kc kt (by decide) (by decide) RC.1.1 RC.2.1.1 R RC
  have b2 := b316 kt (by decide) R
  have hg2 := got_k kc kt (by decide) (by decide) R hg
  have v4' : (GX74_back u b Mc).2.2.2 213 p 0 = u := R2.1.1.2.2.2.2.2.1
  have v2' : (GX74_back u b Mc).2.2.2 211 p 0 = a := R2.1.1.2.2.2.1
  obtain ⟨x0, x1, x2, x3, ⟨x4, x5⟩, ⟨x6, x7⟩, ⟨x8, x9⟩, ⟨xa, xb⟩, xc⟩ := R2.2.1.1
  by_cases c : (GX100_back d1 b Mt).1 = 0
  · have c' : (GX74_back u b Mc).1 = 0 := e1.trans c
    refine ⟨?_, ?_⟩
    · unfold HX92_back HX92_back_0
      try dsimp only
      rw [hcl, y9]
      exact ⟨in5, nd, b1, fun _ => trivial, fun q => absurd c q⟩
    · have g1 : GX46_back p b Mc = GX46_illegal p (GX74_back u b Mc).2 := by
        unfold GX46_back GX46_back_0
        try dsimp only
        rw [v4, fi_pos c']
      have g2 : GX92_back m (nI h) b Mt = GX92_illegal m (GX100_back d1 b Mt).2 := by
        unfold GX92_back GX92_back_0
        try dsimp only
        rw [hcl, y9, fi_pos c]
      rw [g1, g2]
      exact out_t (evo_q' (evo_r r 0 Mc) rq2) b2 (out_i R2 hw hg2)
  · have c' : ¬ (GX74_back u b Mc).1 = 0 := by rw [e1]; exact c
    have c1' : (GX100_back d1 b Mt).1 = Int32.ofInt 1 := e01.resolve_left c
    have k5 : WK [358] (GX100_back d1 b Mt).2 (fm_sI (GX100_back d1 b Mt).2 358 d1 0 (Int32.ofInt 0)) := WK_I (relP_ram R2).2.1.2.1 R2.2.2.2.2.1.2.1.2.1 rfl rfl _
    have T5 : Ty (fm_sI (GX100_back d1 b Mt).2 358 d1 0 (Int32.ofInt 0)) := ⟨(relP_ram R2).2.1.1.1, tyb_sI rfl (relP_ram R2).2.1.1.2⟩
    have R3 := relP_t k5 (by decide) T5 R2
    have b3 := (b316 k5 (by decide) R2).trans b2
    have epl : GX100_place d1 (GX100_back d1 b Mt).2 = ((GX100_back d1 b Mt).2.2.1 365 d1 0, fm_sI (GX100_back d1 b Mt).2 358 d1 0 (Int32.ofInt 0)) := rfl
    obtain ⟨R4, rq4, k4⟩ := P_jump R3 ((GX74_back u b Mc).2.2.1 39 u 0)
    have e39' := e39 c1'
    refine ⟨?_, fs, K, F, T, _, _, evo_w (evo_q' (evo_q' (evo_r r 0 Mc) rq2) rq4) (by omega), hw, (b316 k4 (by decide) R3).trans b3, Or.inl ⟨?_, ?_, relP_upw (by omega) (by omega) (by omega) R4⟩⟩
    · unfold HX92_back HX92_back_0
      try dsimp only
      rw [hcl, y9]
      refine ⟨in5, nd, b1, fun q => absurd q c, fun _ => ?_⟩
      try dsimp only
      rw [x9, epl]
      refine ⟨in_nI x4 (by omega) (by decide), in_nI x8 (by omega) (by decide), R2.2.2.2.2.1.2.1.2.1, ?_⟩
      try dsimp only
      rw [x5]
      exact ⟨R2.2.2.2.1.2.1, trivial⟩
    · unfold GX46_back GX46_back_0
      try dsimp only
      rw [v4, fi_neg c', v4', v2']
    · unfold GX92_back GX92_back_0
      try dsimp only
      rw [hcl, y9, fi_neg c, x9, epl]
      try dsimp only
      rw [x5, e39']
theorem WK_aI {M : FM} {a s i lo hi : Nat} (W : Wf M) (n : fm_is M lo hi a = true) (hlo : Nat.ble 1 lo = true) (sf : Sf M a s) (v : Int32) : WK [1000 + s] M (fm_sI M 3 a i v) :=
  wk_aI (Nat.le_refl _) (wk_r (wi_N W)) hlo n trivial (sy_s sf fe_1)
/-- whether a processor waits -/
theorem P_park {b : Int32} (R : RelP p h bd a fu cf rg u t hv kp fd m c1 f1 d1 w1 hq s dd x dk q rq r g sg bl cr np kn o fs B Bk Vv K F T rt tb Mc Mt) (hb : b = 0 ∨ b = 1) :
    RelP p h bd a fu cf rg u t hv kp fd m c1 f1 d1 w1 hq s dd x dk q rq r g sg bl cr np kn o fs B Bk Vv K F T rt tb (fm_sI Mc 218 p 0 b) (fm_sI Mt 3 (Mt.2.2 307 m 0) h (b &&& 1)) ∧ RamQ r Mc (fm_sI Mc 218 p 0 b) ∧ WK [1307] Mt (fm_sI Mt 3 (Mt.2.2 307 m 0) h (b &&& 1)) := by
  have RR := relP_ram R
  have R0 := R
  obtain ⟨PC, PT, OW, RI, RC, RF, RT, KP, RB⟩ := R
  have T0 := RR.1.1
  have W := RR.1.2.1
  have Tm := RR.2.1.1
  have W' := RR.2.1.2.1
  have np_ := PC.1.1
  have n92 := PT.1.1
  have n307 := tN_307 Tm.1 n92
  have kc : WK [218] Mc (fm_sI Mc 218 p 0 b) := WK_I W np_ rfl rfl _
  have kt : WK [1307] Mt (fm_sI Mt 3 (Mt.2.2 307 m 0) h (b &&& 1)) := WK_aI W' n307 rfl (sS_307 W' n92) _
  have TN : Ty (fm_sI Mc 218 p 0 b) := ⟨T0.1, tyb_sIb rfl T0.2 hb⟩
  have TN' : Ty (fm_sI Mt 3 (Mt.2.2 307 m 0) h (b &&& 1)) := ⟨Tm.1, tyb_s4 Tm.2⟩
  have eb : b &&& 1 = b := by rcases hb with rfl | rfl <;> decide
  have OW' : OwW p m h (fm_sI Mc 218 p 0 b) (fm_sI Mt 3 (Mt.2.2 307 m 0) h (b &&& 1)) := by
    unfold OwW
    rw [rIe, eb]
    show b = (fm_sI Mt 3 (Mt.2.2 307 m 0) h b).1 3 (Mt.2.2 307 m 0) h
    rw [rIe]
  obtain ⟨R2, rq⟩ := relP_x kc kt (by decide) (by decide) TN TN' R0 (evT_k kt (by decide) Tm W' RI.2.1 PT.2.2) OW' (wrI kc kt (by decide) (by decide) T0 W Tm W' RI) (wrCt kc kt (by decide) (by decide) W W' TN TN' RC) (wrF kc kt (by decide) (by decide) W W' TN TN' RF)
    (fun RN h202 E _ => wrTo (e := 0) kc kt (by decide) (by decide) Tm W' RN h202 E RT)
  exact ⟨R2, rq, kt⟩
/-- waiting, a fence: what is allowed is done -/
theorem P_idle {b qi : Int32} (R : RelP p h bd a fu cf rg u t hv kp fd m c1 f1 d1 w1 hq s dd x dk q rq r g sg bl cr np kn (some w) fs B Bk Vv K F T rt tb Mc Mt) (hl : Mt.1 354 c1 0 = Int32.ofInt 2 ∨ Mt.1 354 c1 0 = Int32.ofInt 4) (hw : fs.2.2.2.1 = Int32.ofInt 0) (hg : Got p m Mc Mt) (hb : (b = 0 ∧ qi = Int32.ofInt 1) ∨ (b = 1 ∧ qi = Int32.ofInt 0)) :
    ∃ v, GX74_allowed u qi Mc = (v, Mc) ∧ GX100_allowed d1 qi Mt = (v, fm_sI Mt 358 d1 0 (Int32.ofInt 0)) ∧ HX46_idle p b Mc ∧
      (v = 0 → OutP p h bd a fu cf rg u t hv kp fd m c1 f1 d1 w1 hq s dd x dk q rq r g sg bl cr np kn B Bk Vv rt tb Mc Mt (GX46_idle p b Mc) (GX92_illegal m (fm_sI Mt 358 d1 0 (Int32.ofInt 0)))) ∧
      (¬ v = 0 → HX92_system_187 m (nI h) (Mt.2.2 307 m 0) (nI h) b (fm_sI Mt 358 d1 0 (Int32.ofInt 0)) ∧ OutP p h bd a fu cf rg u t hv kp fd m c1 f1 d1 w1 hq s dd x dk q rq r g sg bl cr np kn B Bk Vv rt tb Mc Mt (GX46_idle p b Mc) (GX92_system_187 m (nI h) (Mt.2.2 307 m 0) (nI h) b (fm_sI Mt 358 d1 0 (Int32.ofInt 0)))) := by
  have RR := relP_ram R
  have hb01 : b = 0 ∨ b = 1 := hb.imp And.left And.left
  have hq01 : qi = 0 ∨ qi = 1 := hb.symm.imp And.right And.right
  obtain ⟨v, e1, e2⟩ := rel_allowed R.2.2.2.2.1 hq01
  have v4 : Mc.2.2 213 p 0 = u := R.1.1.2.2.2.2.2.1
  have nd := R.2.2.2.2.1.2.1.2.1
  have k1 : WK [358] Mt (fm_sI Mt 358 d1 0 (Int32.ofInt 0)) := WK_I RR.2.1.2.1 nd rfl rfl _
  have T1 : Ty (fm_sI Mt 358 d1 0 (Int32.ofInt 0)) := ⟨RR.2.1.1.1, tyb_sI rfl RR.2.1.1.2⟩
  have R1 := relP_t k1 (by decide) T1 R
  have l1 := l354 k1 (by decide) R
  have b1 := b316 k1 (by decide) R
  have hg1 := got_k (WK_r (S := []) RR.1.2.1) k1 (by decide) (by decide) R hg
  have UG : GX46_idle p b Mc = GX46_idle_13 p b u qi Mc := by
    unfold GX46_idle GX46_idle_0
    try dsimp only
    rcases hb with ⟨rfl, rfl⟩ | ⟨rfl, rfl⟩
    · rw [fi_pos rfl, v4]
    · rw [fi_neg (by decide), v4]
  have UH : HX46_idle_13 p b u qi Mc → HX46_idle p b Mc := fun z => by
    unfold HX46_idle HX46_idle_0
    try dsimp only
    rcases hb with ⟨rfl, rfl⟩ | ⟨rfl, rfl⟩
    · rw [v4]
      exact ⟨fun _ => z, fun y => absurd rfl y⟩
    · rw [v4]
      exact ⟨fun y => absurd y (by decide), fun _ => z⟩
  obtain ⟨R2, rq2, k2⟩ := P_park R1 hb01
  have l2 := (l354 k2 (by decide) R1).trans l1
  have b2 := (br_pk (v := b &&& 1) (M := fm_sI Mt 358 d1 0 (Int32.ofInt 0)) (m := m) (h := h) (sg := sg)).trans b1
  obtain ⟨X, Y, ⟨f1_, f2_⟩, ⟨g1_, g2_⟩, R4, rq4, kc4, kt4⟩ := P_ifin R2 (by rw [l2]; exact hl) (Int32.ofInt 0) (Int64.ofInt 0)
  have b4 := (b316 kt4 (by decide) R2).trans b2
  have v2' : (fm_sI Mc 218 p 0 b).2.2 211 p 0 = a := R2.1.1.2.2.2.1
  obtain ⟨x0, x1, x2, x3, ⟨x4, x5⟩, xr⟩ := R2.2.1.1
  have x5' : (fm_sI (fm_sI Mt 358 d1 0 (Int32.ofInt 0)) 3 (Mt.2.2 307 m 0) h (b &&& 1)).2.2 3 ((fm_sI (fm_sI Mt 358 d1 0 (Int32.ofInt 0)) 3 (Mt.2.2 307 m 0) h (b &&& 1)).2.2 303 m 0) h = c1 := x5
  have g2' : GX98_finish c1 (Int32.ofInt 0) (Int64.ofInt 0) (fm_sI (fm_sI Mt 358 d1 0 (Int32.ofInt 0)) 3 (Mt.2.2 307 m 0) h (b &&& 1)) = _ := g2_
  have yc : (fm_sI Mt 358 d1 0 (Int32.ofInt 0)).2.2 1 ((fm_sI Mt 358 d1 0 (Int32.ofInt 0)).2.2 307 m 0) 0 = 4 := R1.2.1.1.2.2.2.2.2.2.2.2
  have hcl : (nI h).toNatClampNeg = h := o_cl (by omega)
  refine ⟨v, e1, e2, UH ?_, fun v0 => ?_, fun v0 => ⟨?_, ?_⟩⟩
  · unfold HX46_idle_13
    try dsimp only
    rw [e1]
    refine ⟨fun _ => trivial, fun _ => ?_⟩
    try dsimp only
    rw [v2']
    exact ⟨f1_, trivial⟩
  · have g1 : GX46_idle_13 p b u qi Mc = GX46_illegal p Mc := by
      unfold GX46_idle_13
      try dsimp only
      rw [e1]
      try dsimp only
      rw [fi_pos v0]
    rw [UG, g1]
    exact out_t (evo_r r 0 Mc) b1 (out_i R1 hw hg1)
  · unfold HX92_system_187
    try dsimp only
    refine ⟨in_nI yc (by omega) (by decide), ?_⟩
    try dsimp only
    rw [hcl]
    rw [x5']
    exact ⟨in_nI x4 (by omega) (by decide), R2.2.2.2.1.2.1, g1_, trivial⟩
  · refine ⟨fs, K, F, T, X, Y, evo_w (evo_q' (evo_q' (evo_r r 0 Mc) rq2) rq4) (by omega), hw, b4, Or.inl ⟨?_, ?_, relP_upw (by omega) (by omega) (by omega) R4⟩⟩
    · rw [UG]
      unfold GX46_idle_13
      try dsimp only
      rw [e1]
      try dsimp only
      rw [fi_neg v0, v2', f2_]
    · unfold GX92_system_187
      try dsimp only
      rw [hcl]
      rw [x5', g2']
end Sy
