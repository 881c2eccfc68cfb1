/-! a processor against the twin's: the kinds of float instructions -/
set_option maxRecDepth 100000
theorem lb_box : ∀ i, i < 64 → 32 ≤ i → lb (Int64.ofInt (-4294967296)) i = true := by decide
theorem box_e (v : Int64) : ((v.toInt32.toInt64 &&& Int64.ofInt 4294967295) ||| Int64.ofInt (-4294967296)) = v ||| Int64.ofInt (-4294967296) := lb_ext (fun i hi => by
  try dsimp only
  rw [lb_or, lb_or, lb_and, lb_sext _ _ hi, lb_mask (Int64.ofInt 4294967295) (k := 32) rfl, ib_low]
  by_cases c : i < 32
  · rw [if_pos c, decide_eq_true c, Bool.true_and, Bool.and_true]
  · have : lb (Int64.ofInt (-4294967296)) i = true := lb_box i hi (by omega)
    rw [this, Bool.or_true, Bool.or_true])
section Fh
variable {p h bd a fu rg u t hv kp fd m c1 f1 d1 w1 hq s dd x dk q rq r g sg bl cr np : Nat} {cf : Nat → Nat} {kn : Int32} {o : Option Wt} {w : Wt} {fs : Fs} {B Bk Vv : Nat} {K : Rg} {F T : Nat → Nat} {rt : Int32} {tb : Int64} {S S' : List Nat} {Mc Mt Nc Nt X : FM} {z k dreg : Nat} {ad v : Int64} {ac md : Int32}
/-- floats are off -/
theorem flo_off {sz so dd_ : Int32} (R : RelP p h bd a fu cf rg u t hv kp fd m c1 f1 d1 w1 hq s dd x dk q rq r g sg bl cr np kn o fs B Bk Vv K F T rt tb Mc Mt) (hw : fs.2.2.2.1 = Int32.ofInt 0) (h13 : tw (ht Mt d1 768) 13 = 0) (hg : Got p m Mc Mt) :
    HX46_floating p Mc ∧ HX92_floating m (nI h) ad sz so dd_ Mt ∧ OutP p h bd a fu cf rg u t hv kp fd m c1 f1 d1 w1 hq s dd x dk q rq r g sg bl cr np kn B Bk Vv rt tb Mc Mt (GX46_floating p Mc) (GX92_floating m (nI h) ad sz so dd_ Mt) := by
  have RR := relP_ram R
  have v4 : Mc.2.2 213 p 0 = u := R.1.1.2.2.2.2.2.1
  obtain ⟨y0, y1, y2, y3, ⟨y4, y5⟩, ⟨y6, y7⟩, ⟨y8, y9⟩, ⟨ya, yb⟩, yc⟩ := R.2.1.1
  have hcl : (nI h).toNatClampNeg = h := o_cl (by omega)
  have nd := R.2.2.2.2.1.2.1.2.1
  obtain ⟨e1, e2⟩ := rel_floats R.2.2.2.2.1
  rw [bz_f (fun q => q h13)] at e1 e2
  have k1 : WK [358] Mt (fm_sI Mt 358 d1 0 (Int32.ofInt 0)) := WK_I RR.2.1.2.1 nd rfl rfl _
  have T1 : Ty (fm_sI Mt 358 d1 0 (Int32.ofInt 0)) := ⟨RR.2.1.1.1, tyb_sI rfl RR.2.1.1.2⟩
  have R1 := relP_t k1 (by decide) T1 R
  have hg1 := got_k (WK_r (S := []) RR.1.2.1) k1 (by decide) (by decide) R hg
  refine ⟨?_, ?_, ?_⟩
  · unfold HX46_floating HX46_floating_0
    try dsimp only
    rw [v4, e1]
    exact ⟨fun _ => trivial, fun q => absurd rfl q⟩
  · unfold HX92_floating HX92_floating_0
    try dsimp only
    rw [hcl, y9, e2]
    exact ⟨in_nI y6 (by omega) (by decide), in_nI y8 (by omega) (by decide), nd, fun _ => trivial, fun q => absurd rfl q⟩
  · have g1 : GX46_floating p Mc = GX46_illegal p Mc := by
      unfold GX46_floating GX46_floating_0
      try dsimp only
      rw [v4, e1]
      try dsimp only
      rw [fi_pos (show Int32.ofInt 0 = 0 from rfl)]
    have g2 : GX92_floating m (nI h) ad sz so dd_ Mt = GX92_illegal m (fm_sI Mt 358 d1 0 (Int32.ofInt 0)) := by
      unfold GX92_floating GX92_floating_0
      try dsimp only
      rw [hcl, y9, e2]
      try dsimp only
      rw [fi_pos (show Int32.ofInt 0 = 0 from rfl)]
    rw [g1, g2]
    exact out_t (evo_r r 0 Mc) ⟨rfl, rfl, fun _ _ => rfl⟩ (out_i R1 hw hg1)
/-- behind what was done: both ends -/
theorem flo_end (R : RelP p h bd a fu cf rg u t hv kp fd m c1 f1 d1 w1 hq s dd x dk q rq r g sg bl cr np kn (some w) fs B Bk Vv K F T rt tb Mc Mt) (hl : Mt.1 354 c1 0 = Int32.ofInt 2 ∨ Mt.1 354 c1 0 = Int32.ofInt 4) (h13 : ¬ tw (ht Mt d1 768) 13 = 0) (hwr : fs.2.2.2.1 = 0 ∨ fs.2.2.2.1 = Int32.ofInt 1) (gg : Int32) (v : Int64) :
    ∃ X Y fs', (HX47_finish a gg v Mc ∧ GX46_floating_110 p (Int32.ofInt 1) (GX47_finish a gg v Mc).2 = (Int32.ofInt 1, X)) ∧
      (HX98_finish c1 gg v Mt ∧ HX92_floating_185 m (nI h) f1 (GX98_finish c1 gg v Mt).2 ∧ GX92_floating_185 m (nI h) f1 (GX98_finish c1 gg v Mt).2 = (Int32.ofInt 1, Y)) ∧
      RelP p h bd a fu cf rg u t hv kp fd m c1 f1 d1 w1 hq s dd x dk q rq r g sg bl cr np kn none fs' B Bk Vv K F T rt tb X Y ∧ fs'.2.2.2.1 = Int32.ofInt 0 ∧ RamQ r Mc X ∧ Br m h sg Y Mt := by
  obtain ⟨X, Y, ⟨f1_, f2_⟩, ⟨g1_, g2_⟩, R4, rq4, kc4, kt4⟩ := P_ifin R hl gg v
  have hs := tw13_k kt4 (by decide) R
  obtain ⟨X2, Y2, fs', a1, ⟨a2, a3⟩, R5, a4, a5, a6⟩ := flo_110 R4 (by rw [hs]; exact h13) hwr (Int32.ofInt 1)
  exact ⟨X2, Y2, fs', ⟨f1_, by rw [f2_]; exact a1⟩, ⟨g1_, by rw [g2_]; exact a2, by rw [g2_]; exact a3⟩, R5, a4, ramQ_t rq4 a5, a6.trans (b316 kt4 (by decide) R)⟩
/-- a load into the floats -/
theorem P_flo7 (R : RelP p h bd a fu cf rg u t hv kp fd m c1 f1 d1 w1 hq s dd x dk q rq r g sg bl cr np kn (some w) fs B Bk Vv K F T rt tb Mc Mt) (To : Told d1 rt tb Mt) (hl : Mt.1 354 c1 0 = Int32.ofInt 2 ∨ Mt.1 354 c1 0 = Int32.ofInt 4) (hw : fs.2.2.2.1 = Int32.ofInt 0) (h13 : ¬ tw (ht Mt d1 768) 13 = 0) (hB : Bk + 8 < 9223372036854775808) (hV : Vv < 2147483648) (hz : z = 4 ∨ z = 8) (hq' : w.2.2.1 = lN z) (hs : w.2.2.2.2.1 = Int64.ofInt 7) (hdk : w.2.2.2.2.2 = nI dreg) (hd32 : dreg < 32) :
    HX46_floating p Mc ∧ HX92_floating m (nI h) w.2.1 (nI z) (Int32.ofInt 7) (nI dreg) Mt ∧ OutP p h bd a fu cf rg u t hv kp fd m c1 f1 d1 w1 hq s dd x dk q rq r g sg bl cr np kn B Bk Vv rt tb Mc Mt (GX46_floating p Mc) (GX92_floating m (nI h) w.2.1 (nI z) (Int32.ofInt 7) (nI dreg) Mt) := by
  have hz' : z = 1 ∨ z = 2 ∨ z = 4 ∨ z = 8 := Or.inr (Or.inr hz)
  have RR := relP_ram R
  have v4 : Mc.2.2 213 p 0 = u := R.1.1.2.2.2.2.2.1
  have v2 : Mc.2.2 211 p 0 = a := R.1.1.2.2.2.1
  obtain ⟨y0, y1, y2, y3, ⟨y4, y5⟩, ⟨y6, y7⟩, ⟨y8, y9⟩, ⟨ya, yb⟩, yc⟩ := R.2.1.1
  have hcl : (nI h).toNatClampNeg = h := o_cl (by omega)
  have nd := R.2.2.2.2.1.2.1.2.1
  obtain ⟨e1, e2⟩ := rel_floats R.2.2.2.2.1
  rw [bz_t h13] at e1 e2
  have k1 : WK [358] Mt (fm_sI Mt 358 d1 0 (Int32.ofInt 0)) := WK_I RR.2.1.2.1 nd rfl rfl _
  have T1 : Ty (fm_sI Mt 358 d1 0 (Int32.ofInt 0)) := ⟨RR.2.1.1.1, tyb_sI rfl RR.2.1.1.2⟩
  have R1 := relP_t k1 (by decide) T1 R
  have To1 := told_k k1 (by decide) RR.2.1.1 RR.2.1.2.1 nd To
  have l1 := l354 k1 (by decide) R
  have b1 := b316 k1 (by decide) R
  have hs1 := tw13_k k1 (by decide) R
  have y7' : (fm_sI Mt 358 d1 0 (Int32.ofInt 0)).2.2 3 ((fm_sI Mt 358 d1 0 (Int32.ofInt 0)).2.2 304 m 0) h = f1 := y7
  generalize hM8 : fm_sI Mt 358 d1 0 (Int32.ofInt 0) = M8 at *
  obtain ⟨⟨q0, q0'⟩, _⟩ := P_want R1 (k := 0) (by decide)
  obtain ⟨⟨q1, q1'⟩, _⟩ := P_want R1 (k := 1) (by decide)
  obtain ⟨⟨q3, q3'⟩, _⟩ := P_want R1 (k := 3) (by decide)
  have w1' : wq w 1 = lN z := hq'
  have w3' : wq w 3 = Int64.ofInt 7 := hs
  rw [show wq w 0 = w.2.1 from rfl] at q0'
  rw [w1'] at q1'
  rw [w3'] at q3'
  have e7 : (Int64.ofInt 7).toInt32 = Int32.ofInt 7 := by decide
  have n1 : ¬ Int32.ofInt 1 = 0 := by decide
  have n739 : ¬ Int32.ofInt 7 = Int32.ofInt 39 := by decide
  obtain ⟨pa, pb, Nc, Nt, E, kc, kt, out⟩ := P_locate (ad := w.2.1) (ac := Int32.ofInt 1) R1 To1 hB hV (Or.inl rfl) hz'
  -- the component's frame
  have UG : GX46_floating p Mc = GX46_floating_110 p (GX46_floatLoad p Mc).1 (GX46_floatLoad p Mc).2 := by
    unfold GX46_floating GX46_floating_0
    try dsimp only
    rw [v4, e1]
    try dsimp only
    rw [fi_neg n1, v2, show GX47_wanted a (Int32.ofInt 3) Mc = _ from q3']
    try dsimp only
    rw [e7, fi_pos (show Int32.ofInt 7 = Int32.ofInt 7 from rfl)]
  have UH : HX46_floatLoad p Mc → HX46_floating p Mc := fun q => by
    unfold HX46_floating HX46_floating_0
    try dsimp only
    rw [v4, e1]
    refine ⟨fun y => absurd y n1, fun _ => ?_⟩
    try dsimp only
    rw [v2, show GX47_wanted a (Int32.ofInt 3) Mc = _ from q3']
    try dsimp only
    rw [e7]
    exact ⟨q3, fun _ => ⟨q, trivial⟩, fun y => absurd rfl y⟩
  rcases out with ⟨a2, b2, R2, To2, Fd⟩ | ⟨a2, b2, hx, R2⟩
  · obtain ⟨v, X, Y, ⟨c1_, c2_⟩, ⟨d1_, d2_⟩, R3, To3, E3, kc3, kt3, e414⟩ := P_get R2 To2 hz' Fd
    have bg := br_of kt3 (by decide) (e316_k kt3 (by decide) R2) e414 R2
    have l3 : Y.1 354 c1 0 = Mt.1 354 c1 0 := (l354 kt3 (by decide) R2).trans ((l354 kt (by decide) R1).trans l1)
    have b3 : Br m h sg Y Mt := bg.trans ((b316 kt (by decide) R1).trans b1)
    have s3 : ht Y d1 768 = ht Mt d1 768 := (tw13_k kt3 (by decide) R2).trans ((tw13_k kt (by decide) R1).trans hs1)
    have RR3 := relP_ram R3
    obtain ⟨oc, ot, vc, vt, vi⟩ := id R3.2.2.2.2.2.1
    obtain ⟨⟨q4, q4'⟩, _⟩ := P_want R3 (k := 4) (by decide)
    have w4' : (wq w 4).toInt32 = nI dreg := by
      show w.2.2.2.2.2.toInt64.toInt32 = _
      rw [i32_64, hdk]
    have v9 : Nc.2.2 217 p 0 = fd := R2.1.1.2.2.2.2.2.2.2.2.2
    have b210 : Nc.2.2 210 p 0 = bd := R2.1.1.2.2.1
    have v2' : X.2.2 211 p 0 = a := R3.1.1.2.2.2.1
    have v3' : X.2.2 212 p 0 = fu := R3.1.1.2.2.2.2.1
    -- the register: both
    obtain ⟨x, hx1, Y4, gt1, gt2, kt4, TY4, vt4, ft4⟩ : ∃ x : Int64, ((nI z = Int32.ofInt 4 → v ||| Int64.ofInt (-4294967296) = x) ∧ (¬ nI z = Int32.ofInt 4 → v = x)) ∧ ∃ Y4 : FM,
        (fi (nI z = Int32.ofInt 4) (GX92_floating_113 m (nI h) f1 (GX99_box f1 (nI dreg) v.toInt32 Y)) (GX92_floating_113 m (nI h) f1 (GX99_set f1 (nI dreg) v Y)) = GX92_floating_113 m (nI h) f1 Y4) ∧
        (HX92_floating_113 m (nI h) f1 Y4 → fm_is Y4 96 96 f1 = true → ((nI z = Int32.ofInt 4 → (fm_is Y 96 96 f1 = true ∧ (HX99_box f1 (nI dreg) v.toInt32 Y ∧ (fm_is (GX99_box f1 (nI dreg) v.toInt32 Y) 96 96 f1 = true ∧ HX92_floating_113 m (nI h) f1 (GX99_box f1 (nI dreg) v.toInt32 Y))))) ∧ (¬ nI z = Int32.ofInt 4 → (fm_is Y 96 96 f1 = true ∧ (HX99_set f1 (nI dreg) v Y ∧ (fm_is (GX99_set f1 (nI dreg) v Y) 96 96 f1 = true ∧ HX92_floating_113 m (nI h) f1 (GX99_set f1 (nI dreg) v Y))))))) ∧
        WK lX99_box Y Y4 ∧ Ty Y4 ∧ VFw f1 Y4 (sPut dreg x fs) ∧ FrTF f1 Y Y4 := by
      rcases hz with rfl | rfl
      · obtain ⟨h1, h2, h3⟩ := X99_box ot vt hd32 v.toInt32
        rw [box_e] at h3
        have g1 := gX99_box f1 (nI dreg) v.toInt32 Y RR3.2.1.1 ot.2.1 h1
        exact ⟨v ||| Int64.ofInt (-4294967296), ⟨fun _ => rfl, fun q => absurd rfl q⟩, _, fi_pos rfl, fun y n => ⟨fun _ => ⟨ot.2.1, h1, n, y⟩, fun q => absurd rfl q⟩, wX99_box (SL lX99_box) (fun _ => True) (fun _ h => h) _ _ _ Y (wi_N RR3.2.1.2.1) trivial _ g1.1, g1.2.1, h3, h2⟩
      · obtain ⟨h1, h2, h3⟩ := X99_set ot vt hd32 v
        have n84 : ¬ nI 8 = Int32.ofInt 4 := by decide
        have g1 := gX99_set f1 (nI dreg) v Y RR3.2.1.1 ot.2.1 h1
        exact ⟨v, ⟨fun q => absurd q n84, fun _ => rfl⟩, _, fi_neg n84, fun y n => ⟨fun q => absurd q n84, fun _ => ⟨ot.2.1, h1, n, y⟩⟩, wX99_set (SL lX99_box) (fun _ => True) (fun _ h => h) _ _ _ Y (wi_N RR3.2.1.2.1) trivial _ g1.1, g1.2.1, h3, h2⟩
    obtain ⟨h1, h2, h3⟩ := X59_set oc vc hd32 x
    have g3 := gX59_set fu (nI dreg) x X RR3.1.1 oc.1.2.1 h1
    have kc4 : WK lX59_set X (GX59_set fu (nI dreg) x X) := wX59_set (SL lX59_set) (fun _ => True) (fun _ h => h) _ _ _ X (wi_N RR3.1.2.1) trivial _ g3.1
    obtain ⟨R4, rq4⟩ := relP_f kc4 kt4 (by decide) (by decide) g3.2.1 TY4 R3 (fs' := sPut dreg x fs) ⟨flU_f oc h2, flO_T ot ft4, h3, vt4, vi⟩
    have l4 := (l354 kt4 (by decide) R3).trans l3
    have s4 := (tw13_k kt4 (by decide) R3).trans s3
    obtain ⟨X5, Y5, fs5, ⟨p1, p2⟩, ⟨r1, r2, r3⟩, R5, hw5, rq5, e5⟩ := flo_end R4 (by rw [l4]; exact hl) (by rw [s4]; exact h13) (Or.inr rfl) (Int32.ofInt 0) (Int64.ofInt 0)
    have v2'' : (GX59_set fu (nI dreg) x X).2.2 211 p 0 = a := R4.1.1.2.2.2.1
    obtain ⟨x0, x1, x2, x3, ⟨x4, x5⟩, xr⟩ := R4.2.1.1
    have H113 : HX92_floating_113 m (nI h) f1 Y4 := by
      unfold HX92_floating_113
      try dsimp only
      rw [hcl, x5]
      exact ⟨in_nI x4 (by omega) (by decide), R4.2.2.2.1.2.1, r1, r2⟩
    have G113 : GX92_floating_113 m (nI h) f1 Y4 = (Int32.ofInt 1, Y5) := by
      unfold GX92_floating_113
      try dsimp only
      rw [hcl, x5, r3]
    have FL : GX46_floatLoad p Mc = (Int32.ofInt 1, (GX47_finish a (Int32.ofInt 0) (Int64.ofInt 0) (GX59_set fu (nI dreg) x X)).2) := by
      unfold GX46_floatLoad GX46_floatLoad_0
      try dsimp only
      rw [v2, show GX47_wanted a (Int32.ofInt 1) Mc = _ from q1']
      try dsimp only
      rw [v2, show GX47_wanted a (Int32.ofInt 0) Mc = _ from q0']
      try dsimp only
      rw [iz_z hz', a2]
      try dsimp only
      rw [fi_neg n1, v9, b210, c2_]
      try dsimp only
      rw [v2', show GX47_wanted a (Int32.ofInt 4) X = _ from q4']
      try dsimp only
      rw [v3', w4']
      have G68 : GX46_floatLoad_68 p fu (nI dreg) x X = (Int32.ofInt 1, (GX47_finish a (Int32.ofInt 0) (Int64.ofInt 0) (GX59_set fu (nI dreg) x X)).2) := by
        unfold GX46_floatLoad_68
        try dsimp only
        rw [v2'']
      by_cases y : nI z = Int32.ofInt 4
      · rw [fi_pos y, hx1.1 y, G68]
      · rw [fi_neg y, hx1.2 y, G68]
    have FH : HX46_floatLoad p Mc := by
      unfold HX46_floatLoad HX46_floatLoad_0
      try dsimp only
      rw [v2, show GX47_wanted a (Int32.ofInt 1) Mc = _ from q1']
      try dsimp only
      rw [v2, show GX47_wanted a (Int32.ofInt 0) Mc = _ from q0']
      try dsimp only
      rw [iz_z hz', a2]
      refine ⟨q1, q0, pa, fun y => absurd y n1, fun _ => ?_⟩
      try dsimp only
      rw [v9, b210, c2_]
      refine ⟨c1_, ?_⟩
      try dsimp only
      rw [v2', show GX47_wanted a (Int32.ofInt 4) X = _ from q4']
      try dsimp only
      rw [v3', w4']
      have H68 : ∀ x', x' = x → HX46_floatLoad_68 p fu (nI dreg) x' X := fun x' hx' => by
        subst hx'
        unfold HX46_floatLoad_68
        try dsimp only
        rw [v2'']
        exact ⟨h1, p1, trivial⟩
      refine ⟨q4, fun y => ?_, fun y => ?_⟩
      · exact H68 _ (hx1.1 y)
      · exact H68 _ (hx1.2 y)
    refine ⟨UH FH, ?_, fs5, K, F, T, X5, Y5, evo_w (evo_q' (evo_q' (evo_t E E3) rq4) rq5) (by omega), hw5, e5.trans ((b316 kt4 (by decide) R3).trans b3), Or.inl ⟨?_, ?_, relP_upw (by omega) (by omega) (by omega) R5⟩⟩
    · unfold HX92_floating HX92_floating_0
      try dsimp only
      rw [hcl, y7, y9, e2]
      refine ⟨in_nI y6 (by omega) (by decide), in_nI y8 (by omega) (by decide), nd, fun y => absurd y n1, fun _ => ⟨fun y => absurd y n739, fun _ => ⟨fun _ => ?_, fun y => absurd rfl y⟩⟩⟩
      try dsimp only
      rw [b2]
      refine ⟨pb, fun y => absurd y n1, fun _ => ?_⟩
      try dsimp only
      rw [d2_]
      exact ⟨d1_, gt2 H113 (kis kt4 RR3.2.1.2.1 rfl ot.2.1)⟩
    · rw [UG, FL]
      exact p2
    · unfold GX92_floating GX92_floating_0
      try dsimp only
      rw [hcl, y7, y9, e2]
      try dsimp only
      rw [fi_neg n1, fi_neg n739, fi_pos (show Int32.ofInt 7 = Int32.ofInt 7 from rfl), b2]
      try dsimp only
      rw [fi_neg n1, d2_]
      try dsimp only
      rw [gt1, G113]
  · have FL : GX46_floatLoad p Mc = (Int32.ofInt 0, Nc) := by
      unfold GX46_floatLoad GX46_floatLoad_0
      try dsimp only
      rw [v2, show GX47_wanted a (Int32.ofInt 1) Mc = _ from q1']
      try dsimp only
      rw [v2, show GX47_wanted a (Int32.ofInt 0) Mc = _ from q0']
      try dsimp only
      rw [iz_z hz', a2]
      try dsimp only
      rw [fi_pos (show Int32.ofInt 0 = 0 from rfl)]
    have FH : HX46_floatLoad p Mc := by
      unfold HX46_floatLoad HX46_floatLoad_0
      try dsimp only
      rw [v2, show GX47_wanted a (Int32.ofInt 1) Mc = _ from q1']
      try dsimp only
      rw [v2, show GX47_wanted a (Int32.ofInt 0) Mc = _ from q0']
      try dsimp only
      rw [iz_z hz', a2]
      exact ⟨q1, q0, pa, fun _ => trivial, fun y => absurd rfl y⟩
    have v3' : Nc.2.2 212 p 0 = fu := R2.1.1.2.2.2.2.1
    have eW := X59_isWritten R2.2.2.2.2.2.1.1 R2.2.2.2.2.2.1.2.2.1
    rw [hw] at eW
    refine ⟨UH FH, ?_, fs, K, F, T, Nc, Nt, evo_w E (by omega), hw, (b316 kt (by decide) R1).trans b1, Or.inr ⟨?_, ?_, hx, relP_upw (by omega) (by omega) (by omega) R2⟩⟩
    · unfold HX92_floating HX92_floating_0
      try dsimp only
      rw [hcl, y7, y9, e2]
      refine ⟨in_nI y6 (by omega) (by decide), in_nI y8 (by omega) (by decide), nd, fun y => absurd y n1, fun _ => ⟨fun y => absurd y n739, fun _ => ⟨fun _ => ?_, fun y => absurd rfl y⟩⟩⟩
      try dsimp only
      rw [b2]
      exact ⟨pb, fun _ => trivial, fun y => absurd rfl y⟩
    · rw [UG, FL]
      unfold GX46_floating_110 GX46_floating_140
      try dsimp only
      rw [v3', eW]
      try dsimp only
      rw [fi_pos (show Int32.ofInt 0 = 0 from rfl)]
    · unfold GX92_floating GX92_floating_0
      try dsimp only
      rw [hcl, y7, y9, e2]
      try dsimp only
      rw [fi_neg n1, fi_neg n739, fi_pos (show Int32.ofInt 7 = Int32.ofInt 7 from rfl), b2]
      try dsimp only
      rw [fi_pos (show Int32.ofInt 0 = 0 from rfl)]
end Fh
