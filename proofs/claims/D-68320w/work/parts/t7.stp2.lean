/-! a processor against the twin's: the whole step; what the twin checks behind it -/
set_option maxRecDepth 100000
section Sp
variable {p h bd a fu rg u t hv kp fd m c1 f1 d1 w1 hq s dd x dk q rq r g sg bl cr np : Nat} {cf : Nat → Nat} {kn : Int32} {o : Option Wt} {fs : Fs} {B Bk Vv : Nat} {K : Rg} {F T : Nat → Nat} {rt : Int32} {tb : Int64} {S S' : List Nat} {Mc Mt Nc Nt X Y : FM}
theorem outS_t (E : Evo r 0 Mc Nc) (e : Br m h sg Nt Mt) (hO : OutS p h bd a fu cf rg u t hv kp fd m c1 f1 d1 w1 hq s dd x dk q rq r g sg bl cr np kn B Bk Vv Nc Nt X Y) : OutS p h bd a fu cf rg u t hv kp fd m c1 f1 d1 w1 hq s dd x dk q rq r g sg bl cr np kn B Bk Vv Mc Mt X Y := by
  obtain ⟨fs, K, F, T, rt, tb, E2, a1, a2, a3⟩ := hO
  exact ⟨fs, K, F, T, rt, tb, evo_w (evo_t E E2) (by omega), a1, a2.trans e, a3⟩
theorem P_step (R : RelP p h bd a fu cf rg u t hv kp fd m c1 f1 d1 w1 hq s dd x dk q rq r g sg bl cr np kn none fs B Bk Vv K F T rt tb Mc Mt) (hw : fs.2.2.2.1 = Int32.ofInt 0) (Gd : GdC g Mc) (hB : Bk + 16 < 9223372036854775808) (hB' : B < 2147483000) (hV : Vv < 2147483648) :
    HX46_step p Mc ∧ HX92_step m (nI h) Mt ∧ OutS p h bd a fu cf rg u t hv kp fd m c1 f1 d1 w1 hq s dd x dk q rq r g sg bl cr np kn B Bk Vv Mc Mt (GX46_step p Mc) (GX92_step m (nI h) Mt) ∧ GdC g (GX46_step p Mc) ∧ WK lX46_step Mc (GX46_step p Mc) ∧ WK lX92_step Mt (GX92_step m (nI h) Mt) := by
  have RR := relP_ram R
  obtain ⟨y0, y1, y2, y3, ⟨y4, y5⟩, ⟨y6, y7⟩, ⟨y8, y9⟩, ⟨ya, yb⟩, yc⟩ := R.2.1.1
  have hcl : (nI h).toNatClampNeg = h := o_cl (by omega)
  have in3 : fm_in Mt (Mt.2.2 303 m 0) (nI h) = true := in_nI y4 (by omega) (by decide)
  have in5 : fm_in Mt (Mt.2.2 305 m 0) (nI h) = true := in_nI y8 (by omega) (by decide)
  obtain ⟨rt0, tb0, VC⟩ := R.2.2.2.2.2.2.1.1
  have ng : fm_is Mc 90 90 g = true := by
    have := tN_288 RR.1.1.1 VC.2.2.1
    rw [VC.2.2.2.2.1] at this
    exact this
  have key : HX46_step p Mc ∧ HX92_step m (nI h) Mt ∧ OutS p h bd a fu cf rg u t hv kp fd m c1 f1 d1 w1 hq s dd x dk q rq r g sg bl cr np kn B Bk Vv Mc Mt (GX46_step p Mc) (GX92_step m (nI h) Mt) := by
    obtain ⟨rt', tb', C1, M1, ⟨a1, a2⟩, ⟨b1, b2⟩, R1, To1, kc1, ev1, kt1⟩ := P_look R
    have RR1 := relP_ram R1
    have Gd1 := gdC_k kc1 (by decide) RR.1.1 RR.1.2.1 ng Gd
    have x316 := b316 kt1 (by decide) R
    have ow : C1.1 218 p 0 = M1.1 3 (M1.2.2 307 m 0) h := R1.2.2.1
    obtain ⟨z0, z1, z2, z3, ⟨z4, z5⟩, ⟨z6, z7⟩, ⟨z8, z9⟩, ⟨za, zb⟩, zc⟩ := R1.2.1.1
    have in7 : fm_in M1 (M1.2.2 307 m 0) (nI h) = true := in_nI zc (by omega) (by decide)
    have n95 := R1.2.2.2.2.1.2.1.2.1
    have n94 := R1.2.2.2.1.2.1
    have v4 : C1.2.2 213 p 0 = u := R1.1.1.2.2.2.2.2.1
    by_cases c : C1.1 218 p 0 = 0
    · have c' : M1.1 3 (M1.2.2 307 m 0) h = 0 := ow.symm.trans c
      obtain ⟨e1, e2, e3⟩ := P_step24 R1 To1 hw Gd1 hB hB' hV
      refine ⟨?_, ?_, ?_⟩
      · unfold HX46_step HX46_step_0
        try dsimp only
        rw [a2]
        exact ⟨a1, fun _ => e1, fun y => absurd c y⟩
      · unfold HX92_step HX92_step_0
        try dsimp only
        rw [hcl, y5, y9, b2]
        exact ⟨in3, in5, b1, in7, fun _ => ⟨n95, n94, e2⟩, fun y => absurd c' y⟩
      · have g1 : GX46_step p Mc = GX46_step_24 p C1 := by
          unfold GX46_step GX46_step_0
          try dsimp only
          rw [a2, fi_pos c]
        have g2 : GX92_step m (nI h) Mt = GX92_step_36 m (nI h) c1 d1 M1 := by
          unfold GX92_step GX92_step_0
          try dsimp only
          rw [hcl, y5, y9, b2, fi_pos c']
        rw [g1, g2]
        exact outS_t ev1 x316 e3
    · have c' : ¬ M1.1 3 (M1.2.2 307 m 0) h = 0 := fun y => c (ow.trans y)
      obtain ⟨w1_, W, w2_, w3_⟩ := rel_wakes R1.2.2.2.2.1
      have k2 : WK [358] M1 (fm_sI M1 358 d1 0 (Int32.ofInt 0)) := WK_I RR1.2.1.2.1 n95 rfl rfl _
      have T2 : Ty (fm_sI M1 358 d1 0 (Int32.ofInt 0)) := ⟨RR1.2.1.1.1, tyb_sI rfl RR1.2.1.1.2⟩
      have R2 := relP_t k2 (by decide) T2 R1
      have To2 := told_k k2 (by decide) RR1.2.1.1 RR1.2.1.2.1 n95 To1
      have x2 := (b316 k2 (by decide) R1).trans x316
      have n95' := R2.2.2.2.2.1.2.1.2.1
      have n94' := R2.2.2.2.1.2.1
      by_cases e : lg_cmp W (Int64.ofInt 0) = 0
      · have e' : bz (¬ lg_cmp W (Int64.ofInt 0) = 0) = 0 := bz_0.mpr (fun y => y e)
        refine ⟨?_, ?_, ?_⟩
        · unfold HX46_step HX46_step_0
          try dsimp only
          rw [a2]
          refine ⟨a1, fun y => absurd y c, fun _ => ?_⟩
          try dsimp only
          rw [v4, w2_]
          exact ⟨fun _ => trivial, fun y => absurd e y⟩
        · unfold HX92_step HX92_step_0
          try dsimp only
          rw [hcl, y5, y9, b2]
          refine ⟨in3, in5, b1, in7, fun y => absurd y c', fun _ => ⟨n95, w1_, ?_⟩⟩
          try dsimp only
          rw [w3_]
          exact ⟨fun _ => trivial, fun y => absurd e' y⟩
        · have g1 : GX46_step p Mc = C1 := by
            unfold GX46_step GX46_step_0
            try dsimp only
            rw [a2, fi_neg c, v4, w2_]
            try dsimp only
            rw [fi_pos e]
          have g2 : GX92_step m (nI h) Mt = fm_sI M1 358 d1 0 (Int32.ofInt 0) := by
            unfold GX92_step GX92_step_0
            try dsimp only
            rw [hcl, y5, y9, b2, fi_neg c', w3_]
            try dsimp only
            rw [fi_pos e']
          rw [g1, g2]
          exact ⟨fs, K, F, T, rt', tb', evo_w ev1 (by omega), hw, x2, relP_upw (by omega) (by omega) (by omega) R2⟩
      · have e' : ¬ bz (¬ lg_cmp W (Int64.ofInt 0) = 0) = 0 := fun y => (bz_0.mp y) e
        obtain ⟨e1, e2, e3⟩ := P_step24 R2 To2 hw Gd1 hB hB' hV
        refine ⟨?_, ?_, ?_⟩
        · unfold HX46_step HX46_step_0
          try dsimp only
          rw [a2]
          refine ⟨a1, fun y => absurd y c, fun _ => ?_⟩
          try dsimp only
          rw [v4, w2_]
          exact ⟨fun y => absurd y e, fun _ => e1⟩
        · unfold HX92_step HX92_step_0
          try dsimp only
          rw [hcl, y5, y9, b2]
          refine ⟨in3, in5, b1, in7, fun y => absurd y c', fun _ => ⟨n95, w1_, ?_⟩⟩
          try dsimp only
          rw [w3_]
          exact ⟨fun y => absurd y e', fun _ => ⟨n95', n94', e2⟩⟩
        · have g1 : GX46_step p Mc = GX46_step_24 p C1 := by
            unfold GX46_step GX46_step_0
            try dsimp only
            rw [a2, fi_neg c, v4, w2_]
            try dsimp only
            rw [fi_neg e]
          have g2 : GX92_step m (nI h) Mt = GX92_step_36 m (nI h) c1 d1 (fm_sI M1 358 d1 0 (Int32.ofInt 0)) := by
            unfold GX92_step GX92_step_0
            try dsimp only
            rw [hcl, y5, y9, b2, fi_neg c', w3_]
            try dsimp only
            rw [fi_neg e']
          rw [g1, g2]
          exact outS_t ev1 x2 e3
  obtain ⟨h1, h2, h3⟩ := key
  have g1 := gX46_step p Mc RR.1.1 R.1.1.1 h1
  have g2 := gX92_step m (nI h) Mt RR.2.1.1 y0 h2
  have k1 : WK lX46_step Mc (GX46_step p Mc) := wX46_step (SL lX46_step) (fun _ => True) (fun _ h => h) fN p Mc (wi_N RR.1.2.1) trivial _ g1.1
  have k2 : WK lX92_step Mt (GX92_step m (nI h) Mt) := wk_A (fun _ => trivial) (wX92_step (SL lX92_step) (fun _ => True) (hx := h) (fun _ h => h) fN m (nI h) Mt (wi_A (fun _ => trivial) (wi_N RR.2.1.2.1)) trivial hcl _ g2.1)
  exact ⟨h1, h2, h3, gdC_k k1 (by decide) RR.1.1 RR.1.2.1 ng Gd, k1, k2⟩
/-- the twin finds nothing amiss -/
theorem P_check (R : RelP p h bd a fu cf rg u t hv kp fd m c1 f1 d1 w1 hq s dd x dk q rq r g sg bl cr np kn o fs B Bk Vv K F T rt tb Mc Mt) : HX92_check m (nI h) Mt ∧ RelP p h bd a fu cf rg u t hv kp fd m c1 f1 d1 w1 hq s dd x dk q rq r g sg bl cr np kn o fs B Bk Vv K F T rt tb Mc (GX92_check m (nI h) Mt) ∧ Br m h sg (GX92_check m (nI h) Mt) Mt ∧ WK lX92_check Mt (GX92_check m (nI h) Mt) := by
  have RR := relP_ram R
  obtain ⟨y0, y1, y2, y3, ⟨y4, y5⟩, ⟨y6, y7⟩, ⟨y8, y9⟩, ⟨ya, yb⟩, yc⟩ := R.2.1.1
  have hcl : (nI h).toNatClampNeg = h := o_cl (by omega)
  have in3 : fm_in Mt (Mt.2.2 303 m 0) (nI h) = true := in_nI y4 (by omega) (by decide)
  have in5 : fm_in Mt (Mt.2.2 305 m 0) (nI h) = true := in_nI y8 (by omega) (by decide)
  have n95 := R.2.2.2.2.1.2.1.2.1
  have n94 := R.2.2.2.1.2.1
  obtain ⟨e1, e2⟩ := R.2.1.2.2
  have hm := R.2.2.2.2.1.2.2.2.2.1.2
  have vi := R.2.2.2.2.1.2.1.2.2.2.1
  -- the memories on the way
  have k1 : WK [358] Mt (fm_sI Mt 358 d1 0 (Int32.ofInt 0)) := WK_I RR.2.1.2.1 n95 rfl rfl _
  have T1 : Ty (fm_sI Mt 358 d1 0 (Int32.ofInt 0)) := ⟨RR.2.1.1.1, tyb_sI rfl RR.2.1.1.2⟩
  have R1 := relP_t k1 (by decide) T1 R
  obtain ⟨_, j1, j2⟩ := rel_iget RR.1.1 T1 R1.2.2.2.1 (k := 0) (by decide)
  have r0 : Mc.2.1 3 (rgI a Mc) 0 = Int64.ofInt 0 := (R.2.2.2.1.2.2.1 0).trans e1
  rw [r0] at j2
  have j1 : HX98_get c1 (Int32.ofInt 0) (fm_sI Mt 358 d1 0 (Int32.ofInt 0)) := j1
  have j2 : GX98_get c1 (Int32.ofInt 0) (fm_sI Mt 358 d1 0 (Int32.ofInt 0)) = (Int64.ofInt 0, fm_sI (fm_sI Mt 358 d1 0 (Int32.ofInt 0)) 345 c1 0 (Int32.ofInt 0)) := j2
  have sv : ∀ Z : FM, fm_sL Z 316 m 0 (Z.2.1 316 m 0) = Z := fun Z => sL_self _ _ _ _
  have ecmp : lg_cmp (Int64.ofInt 0) (Int64.ofInt 0) = 0 := by decide
  generalize hX : fm_sI (fm_sI Mt 358 d1 0 (Int32.ofInt 0)) 345 c1 0 (Int32.ofInt 0) = X at *
  have X2 : X.2 = Mt.2 := by rw [← hX]; rfl
  have X347 : X.2.1 347 c1 0 = Mt.2.1 347 c1 0 := by rw [X2]
  have c2 : lg_cmp (X.2.1 347 c1 0 &&& Int64.ofInt 1) (Int64.ofInt 0) = 0 := by
    rw [X347]
    rw [cl_eq, ul_and, show ul (Int64.ofInt 1) = 1 from rfl, Nat.and_one_is_mod]
    exact e2
  have ecn : GX98_counter c1 X = (X.2.1 347 c1 0, fm_sI X 345 c1 0 (Int32.ofInt 0)) := rfl
  have exx : fm_sI X 345 c1 0 (Int32.ofInt 0) = X := by rw [← hX]; exact fm_II
  rw [exx] at ecn
  have bl : ¬ (GX100_below d1 X).1 = Int32.ofInt 2 := by
    have : (GX100_below d1 X).1 = tw (ht X d1 768) 11 := by rw [X100_below]
    rw [this, show ht X d1 768 = ht Mt d1 768 by unfold ht; rw [X2]]
    exact vi
  have bl2 : (GX100_below d1 X).2 = X := by rw [X100_below]
  have f358 : GX100_mode d1 Mt = (Mt.1 360 d1 0, fm_sI Mt 358 d1 0 (Int32.ofInt 0)) := by
    unfold GX100_mode GX100_mode_0
    try dsimp only
    rw [rIf (by decide)]
  have x303 : X.2.2 303 m 0 = Mt.2.2 303 m 0 := by rw [X2]
  have x305 : X.2.2 305 m 0 = Mt.2.2 305 m 0 := by rw [X2]
  have x5 : X.2.2 3 (Mt.2.2 303 m 0) h = c1 := by rw [X2]; exact y5
  have x9 : X.2.2 3 (Mt.2.2 305 m 0) h = d1 := by rw [X2]; exact y9
  have inX3 : fm_in X (Mt.2.2 303 m 0) (nI h) = true := by unfold fm_in at *; rw [X2]; exact in3
  have inX5 : fm_in X (Mt.2.2 305 m 0) (nI h) = true := by unfold fm_in at *; rw [X2]; exact in5
  have nX94 : fm_is X 94 94 c1 = true := by unfold fm_is at *; rw [X2]; exact n94
  have nX95 : fm_is X 95 95 d1 = true := by unfold fm_is at *; rw [X2]; exact n95
  -- from the end
  have g103 : GX92_check_103 m (nI h) m (X.2.1 316 m 0) X = X ∧ HX92_check_103 m (nI h) m (X.2.1 316 m 0) X := by
    constructor
    · unfold GX92_check_103 GX92_check_133
      try dsimp only
      rw [sv, hcl, x305, x9, fi_neg bl, bl2, sv]
    · unfold HX92_check_103
      try dsimp only
      rw [sv, hcl, x305, x9]
      exact ⟨inX5, nX95, trivial⟩
  have g72 : GX92_check_72 m (nI h) (Mt.1 360 d1 0) m (X.2.1 316 m 0) X = X ∧ HX92_check_72 m (nI h) (Mt.1 360 d1 0) m (X.2.1 316 m 0) X := by
    constructor
    · unfold GX92_check_72 GX92_check_99
      try dsimp only
      rw [sv, g103.1]
      rcases hm with z | z | z
      · rw [fi_pos (show Mt.1 360 d1 0 = 0 from z)]
      · rw [fi_neg (show ¬ Mt.1 360 d1 0 = 0 by rw [z]; decide), fi_pos z]
      · rw [fi_neg (show ¬ Mt.1 360 d1 0 = 0 by rw [z]; decide), fi_neg (show ¬ Mt.1 360 d1 0 = Int32.ofInt 1 by rw [z]; decide), fi_pos z]
    · unfold HX92_check_72 HX92_check_99
      try dsimp only
      rw [sv]
      refine ⟨fun _ => g103.2, fun a1 => ⟨fun _ => g103.2, fun a2 => ⟨fun _ => g103.2, fun a3 => ?_⟩⟩⟩
      rcases hm with z | z | z
      · exact absurd z a1
      · exact absurd z a2
      · exact absurd z a3
  have g39 : GX92_check_39 m (nI h) (Mt.1 360 d1 0) m (X.2.1 316 m 0) X = X ∧ HX92_check_39 m (nI h) (Mt.1 360 d1 0) m (X.2.1 316 m 0) X := by
    constructor
    · unfold GX92_check_39
      try dsimp only
      rw [sv, hcl, x303, x5, ecn]
      try dsimp only
      rw [fi_pos c2, g72.1]
    · unfold HX92_check_39
      try dsimp only
      rw [sv, hcl, x303, x5, ecn]
      exact ⟨inX3, nX94, fun _ => g72.2, fun y => absurd c2 y⟩
  have G : GX92_check m (nI h) Mt = X := by
    unfold GX92_check GX92_check_0
    try dsimp only
    rw [hcl, y9, f358]
    try dsimp only
    rw [show (fm_sI Mt 358 d1 0 (Int32.ofInt 0)).2.2 3 ((fm_sI Mt 358 d1 0 (Int32.ofInt 0)).2.2 303 m 0) h = c1 from y5, j2]
    try dsimp only
    rw [fi_pos ecmp, g39.1]
  have H : HX92_check m (nI h) Mt := by
    unfold HX92_check HX92_check_0
    try dsimp only
    rw [hcl, y9, f358]
    refine ⟨in5, n95, ?_⟩
    try dsimp only
    rw [show (fm_sI Mt 358 d1 0 (Int32.ofInt 0)).2.2 3 ((fm_sI Mt 358 d1 0 (Int32.ofInt 0)).2.2 303 m 0) h = c1 from y5, j2]
    exact ⟨in3, n94, j1, fun _ => g39.2, fun y => absurd ecmp y⟩
  have k2 : WK [345] (fm_sI Mt 358 d1 0 (Int32.ofInt 0)) X := by
    rw [← hX]
    exact WK_I (relP_ram R1).2.1.2.1 R1.2.2.2.1.2.1 rfl rfl _
  have T2 : Ty X := by
    rw [← hX]
    exact ⟨T1.1, tyb_sI rfl T1.2⟩
  rw [G]
  exact ⟨H, relP_t k2 (by decide) T2 R1, (b316 k2 (by decide) R1).trans (b316 k1 (by decide) R), WK_t (WK_s (by decide) k1) (WK_s (by decide) k2)⟩
end Sp
