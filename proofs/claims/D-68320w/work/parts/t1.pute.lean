/-! a processor against the twin's: control registers that lie elsewhere are written; access -/
set_option maxRecDepth 100000
def lPe : List Nat := [366, 368, 369, 371, 422, 1427, 1428]
section Em
variable {p h bd a fu rg u t hv kp fd m c1 f1 d1 w1 hq s dd x dk q rq r g sg bl cr np : Nat} {cf : Nat → Nat} {kn : Int32} {o : Option Wt} {w : Wt} {fs fs' : Fs} {B Bk Vv : Nat} {K : Rg} {F T : Nat → Nat} {rt : Int32} {tb : Int64} {S S' : List Nat} {Mc Mt Nc Nt : FM} {n : Nat}
theorem P_putE (R : RelP p h bd a fu cf rg u t hv kp fd m c1 f1 d1 w1 hq s dd x dk q rq r g sg bl cr np kn o fs B Bk Vv K F T rt tb Mc Mt) (hw : fs.2.2.2.1 = Int32.ofInt 0) (Gd : GdC g Mc) (hn : n < 4096) (he : els n) (v : Int64) :
    ∃ X Y fs' K' F' T', (HX46_putElsewhere p (nI n) v Mc ∧ GX46_putElsewhere p (nI n) v Mc = X) ∧ (HX92_setElsewhere m (nI h) (nI n) v Mt ∧ GX92_setElsewhere m (nI h) (nI n) v Mt = Y) ∧ RelP p h bd a fu cf rg u t hv kp fd m c1 f1 d1 w1 hq s dd x dk q rq r g sg bl cr np kn o fs' B Bk (Vv + 1) K' F' T' rt tb X Y ∧ fs'.2.2.2.1 = Int32.ofInt 0 ∧ RamQ r Mc X ∧ WK lPe Mt Y := by
  have RR := relP_ram R
  obtain ⟨y0, y1, y2, y3, ⟨y4, y5⟩, ⟨y6, y7⟩, ⟨y8, y9⟩, ⟨ya, yb⟩, yc⟩ := R.2.1.1
  have hcl : (nI h).toNatClampNeg = h := o_cl (by omega)
  have in4 : fm_in Mt (Mt.2.2 304 m 0) (nI h) = true := in_nI y6 (by omega) (by decide)
  have in6 : fm_in Mt (Mt.2.2 306 m 0) (nI h) = true := in_nI ya (by omega) (by decide)
  have n96 := R.2.2.2.2.2.1.2.1.2.1
  have VT := R.2.2.2.2.2.2.1.2.1
  have e288 : Mc.2.2 288 t 0 = g := by
    obtain ⟨⟨rt0, tb0, VC⟩, _⟩ := R.2.2.2.2.2.2.1
    exact VC.2.2.2.2.1
  have v3 : Mc.2.2 212 p 0 = fu := R.1.1.2.2.2.2.1
  have v5 : Mc.2.2 214 p 0 = t := R.1.1.2.2.2.2.2.2.1
  by_cases c4 : 4 ≤ n
  · have g4 : Int32.ofInt 4 ≤ nI n := (nge hn 4 (by decide)).mpr (by omega)
    have m1 : ¬ nI n = Int32.ofInt 1 := fun q => by have := (neq hn 1 (by decide)).mp q; omega
    have m2 : ¬ nI n = Int32.ofInt 2 := fun q => by have := (neq hn 2 (by decide)).mp q; omega
    have m3 : ¬ nI n = Int32.ofInt 3 := fun q => by have := (neq hn 3 (by decide)).mp q; omega
    have tG : ∀ Y, GX92_setElsewhere_59 m (nI h) (nI n) v Mt = Y → GX92_setElsewhere m (nI h) (nI n) v Mt = Y := fun Y q => by
      unfold GX92_setElsewhere GX92_setElsewhere_0 GX92_setElsewhere_24
      try dsimp only
      rw [fi_neg m1, fi_neg m3, fi_neg m2, fi_neg m3]
      exact q
    have tH : HX92_setElsewhere_59 m (nI h) (nI n) v Mt → HX92_setElsewhere m (nI h) (nI n) v Mt := fun q => by
      unfold HX92_setElsewhere HX92_setElsewhere_0 HX92_setElsewhere_24
      try dsimp only
      exact ⟨fun z => absurd z m1, fun _ => ⟨fun z => absurd z m3, fun _ => ⟨fun z => absurd z m2, fun _ => ⟨fun z => absurd z m3, fun _ => q⟩⟩⟩⟩
    by_cases c928 : n = 928
    · have q9 : nI n = Int32.ofInt 928 := (neq hn 928 (by decide)).mpr (by omega)
      obtain ⟨Nc, Nt, K', F', T', ⟨a1, a2⟩, ⟨b1, b2⟩, R2, rq, kc, kt⟩ := P_conf R Gd v
      obtain ⟨R3, k3, h3, g3⟩ := P_calmT R2 hw
      refine ⟨Nc, _, fs, K', F', T', ⟨?_, ?_⟩, ⟨tH ?_, tG _ ?_⟩, R3, hw, rq, WK_t (WK_s (by decide) kt) (WK_s (by decide) k3)⟩
      · unfold HX46_putElsewhere HX46_putElsewhere_0
        try dsimp only
        refine ⟨fun _ => ?_, fun q => absurd q9 q⟩
        try dsimp only
        rw [v5, e288]
        exact ⟨a1, trivial⟩
      · unfold GX46_putElsewhere GX46_putElsewhere_0 GX46_putElsewhere_105
        try dsimp only
        rw [fi_pos q9]
        try dsimp only
        rw [v5, e288, a2]
      · unfold HX92_setElsewhere_59
        try dsimp only
        refine ⟨fun _ => ?_, fun q => absurd q9 q⟩
        try dsimp only
        rw [hcl, yb, b2]
        exact ⟨in6, VT.1, b1, h3⟩
      · unfold GX92_setElsewhere_59
        try dsimp only
        rw [fi_pos q9]
        try dsimp only
        rw [hcl, yb, b2, g3]
    · have q9 : ¬ nI n = Int32.ofInt 928 := fun q => by have := (neq hn 928 (by decide)).mp q; omega
      by_cases c944 : 944 ≤ n ∧ n < 952
      · obtain ⟨i, hi, rfl⟩ : ∃ i, i < 8 ∧ n = 944 + i := ⟨n - 944, by omega, by omega⟩
        have l944 : ¬ nI (944 + i) < Int32.ofInt 944 := fun q => by have := (nlt hn 944 (by decide)).mp q; omega
        have g952 : ¬ Int32.ofInt 952 ≤ nI (944 + i) := fun q => by have := (nge hn 952 (by decide)).mp q; omega
        have es : nI (944 + i) - Int32.ofInt 944 = nI i := by
          apply ui_inj
          rw [ui_sub, ui_nI, ui_nI, show ui (Int32.ofInt 944) = 944 from rfl]
          omega
        obtain ⟨Nc, Nt, K', F', T', ⟨a1, a2⟩, ⟨b1, b2⟩, R2, rq, kc, kt⟩ := P_numb R Gd hi v
        obtain ⟨R3, k3, h3, g3⟩ := P_calmT R2 hw
        refine ⟨Nc, _, fs, K', F', T', ⟨?_, ?_⟩, ⟨tH ?_, tG _ ?_⟩, R3, hw, rq, WK_t (WK_s (by decide) kt) (WK_s (by decide) k3)⟩
        · unfold HX46_putElsewhere HX46_putElsewhere_0
          try dsimp only
          refine ⟨fun q => absurd q q9, fun _ => ⟨fun q => absurd q l944, fun _ => ⟨fun q => absurd q g952, fun _ => ?_⟩⟩⟩
          try dsimp only
          rw [v5, e288, es]
          exact ⟨a1, trivial⟩
        · unfold GX46_putElsewhere GX46_putElsewhere_0 GX46_putElsewhere_105
          try dsimp only
          rw [fi_neg q9, fi_neg l944, fi_neg g952]
          try dsimp only
          rw [v5, e288, es, a2]
        · unfold HX92_setElsewhere_59
          try dsimp only
          refine ⟨fun q => absurd q q9, fun _ => ⟨fun q => absurd q l944, fun _ => ⟨fun q => absurd q g952, fun _ => ?_⟩⟩⟩
          try dsimp only
          rw [hcl, yb, es, b2]
          exact ⟨in6, VT.1, b1, h3⟩
        · unfold GX92_setElsewhere_59
          try dsimp only
          rw [fi_neg q9, fi_neg l944, fi_neg g952]
          try dsimp only
          rw [hcl, yb, es, b2, g3]
      · obtain ⟨R3, k3, h3, g3⟩ := P_calmT R hw
        have hc54 : GX46_putElsewhere_54 p (nI n) v Mc = Mc := by
          unfold GX46_putElsewhere_54 GX46_putElsewhere_105
          try dsimp only
          rw [fi_pos g4]
        refine ⟨Mc, _, fs, K, F, T, ⟨?_, ?_⟩, ⟨tH ?_, tG _ ?_⟩, relP_upw (Nat.le_refl _) (Nat.le_refl _) (by omega) R3, hw, ramQ_r RR.1, WK_s (by decide) k3⟩
        · unfold HX46_putElsewhere HX46_putElsewhere_0
          try dsimp only
          refine ⟨fun q => absurd q q9, fun _ => ⟨fun _ => trivial, fun ql => ⟨fun _ => trivial, fun qg => ?_⟩⟩⟩
          exact absurd ⟨Classical.byContradiction (fun z => ql ((nlt hn 944 (by decide)).mpr (by omega))), Classical.byContradiction (fun z => qg ((nge hn 952 (by decide)).mpr (by omega)))⟩ c944
        · unfold GX46_putElsewhere GX46_putElsewhere_0
          try dsimp only
          rw [fi_neg q9, hc54]
          by_cases l : nI n < Int32.ofInt 944
          · rw [fi_pos l]
          · have g952 : Int32.ofInt 952 ≤ nI n := Classical.byContradiction (fun qg => absurd ⟨Classical.byContradiction (fun z => l ((nlt hn 944 (by decide)).mpr (by omega))), Classical.byContradiction (fun z => qg ((nge hn 952 (by decide)).mpr (by omega)))⟩ c944)
            rw [fi_neg l, fi_pos g952]
        · unfold HX92_setElsewhere_59
          try dsimp only
          refine ⟨fun q => absurd q q9, fun _ => ⟨fun _ => h3, fun ql => ⟨fun _ => h3, fun qg => ?_⟩⟩⟩
          exact absurd ⟨Classical.byContradiction (fun z => ql ((nlt hn 944 (by decide)).mpr (by omega))), Classical.byContradiction (fun z => qg ((nge hn 952 (by decide)).mpr (by omega)))⟩ c944
        · unfold GX92_setElsewhere_59
          try dsimp only
          rw [fi_neg q9, g3]
          by_cases l : nI n < Int32.ofInt 944
          · rw [fi_pos l]
          · have g952 : Int32.ofInt 952 ≤ nI n := Classical.byContradiction (fun qg => absurd ⟨Classical.byContradiction (fun z => l ((nlt hn 944 (by decide)).mpr (by omega))), Classical.byContradiction (fun z => qg ((nge hn 952 (by decide)).mpr (by omega)))⟩ c944)
            rw [fi_neg l, fi_pos g952]
  · have g4 : ¬ Int32.ofInt 4 ≤ nI n := fun q => by have := (nge hn 4 (by decide)).mp q; omega
    have q9 : ¬ nI n = Int32.ofInt 928 := fun q => by have := (neq hn 928 (by decide)).mp q; omega
    have l944 : nI n < Int32.ofInt 944 := (nlt hn 944 (by decide)).mpr (by omega)
    have HC : HX46_putElsewhere p (nI n) v Mc := by
      unfold HX46_putElsewhere HX46_putElsewhere_0
      try dsimp only
      exact ⟨fun q => absurd q q9, fun _ => ⟨fun _ => trivial, fun q => absurd l944 q⟩⟩
    have GC : ∀ X, GX46_putElsewhere_54 p (nI n) v Mc = X → GX46_putElsewhere p (nI n) v Mc = X := fun X q => by
      unfold GX46_putElsewhere GX46_putElsewhere_0
      try dsimp only
      rw [fi_neg q9, fi_pos l944]
      exact q
    -- the twin's end, for any memory
    have t59 : ∀ (Y : FM), HX92_setElsewhere_108 m (nI h) Y → (HX92_setElsewhere_59 m (nI h) (nI n) v Y ∧ GX92_setElsewhere_59 m (nI h) (nI n) v Y = GX92_setElsewhere_108 m (nI h) Y) := fun Y q => by
      constructor
      · unfold HX92_setElsewhere_59
        try dsimp only
        exact ⟨fun z => absurd z q9, fun _ => ⟨fun _ => q, fun z => absurd l944 z⟩⟩
      · unfold GX92_setElsewhere_59
        try dsimp only
        rw [fi_neg q9, fi_pos l944]
    have : n = 1 ∨ n = 2 ∨ n = 3 := by omega
    rcases this with rfl | rfl | rfl
    · have i1 : nI 1 = Int32.ofInt 1 := rfl
      have m2 : ¬ nI 1 = Int32.ofInt 2 := by decide
      have m3 : ¬ nI 1 = Int32.ofInt 3 := by decide
      obtain ⟨R2, rq2, k2⟩ := P_putFlags R v.toInt32
      obtain ⟨R3, rq3, k3, h3, g3, c3⟩ := P_calmB R2
      obtain ⟨t1, t2⟩ := t59 _ h3
      have v3' : (GX59_putFlags fu v.toInt32 Mc).2.2 212 p 0 = fu := R2.1.1.2.2.2.2.1
      refine ⟨_, _, _, K, F, T, ⟨HC, GC _ ?_⟩, ⟨?_, ?_⟩, relP_upw (Nat.le_refl _) (Nat.le_refl _) (by omega) R3, rfl, ramQ_t rq2 rq3, WK_t (WK_s (by decide) k2) (WK_s (by decide) k3)⟩
      · unfold GX46_putElsewhere_54 GX46_putElsewhere_73
        try dsimp only
        rw [fi_neg g4, fi_neg m2]
        try dsimp only
        rw [fi_pos i1, v3, c3]
      · unfold HX92_setElsewhere HX92_setElsewhere_0 HX92_setElsewhere_10 HX92_setElsewhere_24
        try dsimp only
        refine ⟨fun _ => ?_, fun q => absurd i1 q⟩
        try dsimp only
        rw [hcl, y7]
        exact ⟨in4, n96, fun q => absurd q m2, fun _ => ⟨fun q => absurd q m3, fun _ => t1⟩⟩
      · unfold GX92_setElsewhere GX92_setElsewhere_0 GX92_setElsewhere_10 GX92_setElsewhere_24
        try dsimp only
        rw [fi_pos i1]
        try dsimp only
        rw [fi_neg m2, fi_neg m3, hcl, y7, t2, g3]
    · have i2 : nI 2 = Int32.ofInt 2 := rfl
      have m1 : ¬ nI 2 = Int32.ofInt 1 := by decide
      have m3 : ¬ nI 2 = Int32.ofInt 3 := by decide
      obtain ⟨R2, rq2, k2⟩ := P_putMode R v.toInt32
      obtain ⟨R3, rq3, k3, h3, g3, c3⟩ := P_calmB R2
      obtain ⟨t1, t2⟩ := t59 _ h3
      refine ⟨_, _, _, K, F, T, ⟨HC, GC _ ?_⟩, ⟨?_, ?_⟩, relP_upw (Nat.le_refl _) (Nat.le_refl _) (by omega) R3, rfl, ramQ_t rq2 rq3, WK_t (WK_s (by decide) k2) (WK_s (by decide) k3)⟩
      · unfold GX46_putElsewhere_54 GX46_putElsewhere_73 GX46_putElsewhere_94
        try dsimp only
        rw [fi_neg g4, fi_pos i2, fi_neg m1, fi_pos i2]
        try dsimp only
        rw [v3, c3]
      · unfold HX92_setElsewhere HX92_setElsewhere_0 HX92_setElsewhere_24 HX92_setElsewhere_34 HX92_setElsewhere_52
        try dsimp only
        refine ⟨fun q => absurd q m1, fun _ => ⟨fun q => absurd q m3, fun _ => ⟨fun _ => ?_, fun q => absurd i2 q⟩⟩⟩
        try dsimp only
        rw [hcl, y7]
        exact ⟨in4, fun _ => ⟨n96, t1⟩, fun q => absurd i2 q⟩
      · unfold GX92_setElsewhere GX92_setElsewhere_0 GX92_setElsewhere_24 GX92_setElsewhere_34 GX92_setElsewhere_52
        try dsimp only
        rw [fi_neg m1, fi_neg m3, fi_pos i2]
        try dsimp only
        rw [fi_pos i2, hcl, y7, t2, g3]
    · have i3 : nI 3 = Int32.ofInt 3 := rfl
      have m1 : ¬ nI 3 = Int32.ofInt 1 := by decide
      have m2 : ¬ nI 3 = Int32.ofInt 2 := by decide
      obtain ⟨R2, rq2, k2⟩ := P_putFlags R v.toInt32
      obtain ⟨R3, rq3, k3⟩ := P_putMode R2 (v >>> ((Int32.ofInt 5).toInt64 &&& 63)).toInt32
      obtain ⟨R4, rq4, k4, h4, g4', c4'⟩ := P_calmB R3
      obtain ⟨t1, t2⟩ := t59 _ h4
      have v3' : (GX59_putFlags fu v.toInt32 Mc).2.2 212 p 0 = fu := R2.1.1.2.2.2.2.1
      obtain ⟨x0, x1, x2, x3, _, ⟨x6, x7⟩, _⟩ := R2.2.1.1
      have in4' := in_nI (M := GX99_putFlags f1 (v.toInt32 &&& Int32.ofInt 31) Mt) (k := h) x6 (by omega) (by decide)
      have n96' := R2.2.2.2.2.2.1.2.1.2.1
      refine ⟨_, _, _, K, F, T, ⟨HC, GC _ ?_⟩, ⟨?_, ?_⟩, relP_upw (Nat.le_refl _) (Nat.le_refl _) (by omega) R4, rfl, ramQ_t rq2 (ramQ_t rq3 rq4), WK_t (WK_s (by decide) k2) (WK_t (WK_s (by decide) k3) (WK_s (by decide) k4))⟩
      · unfold GX46_putElsewhere_54 GX46_putElsewhere_73 GX46_putElsewhere_94
        try dsimp only
        rw [fi_neg g4, fi_neg m2]
        try dsimp only
        rw [fi_neg m1, fi_neg m2, v3, v3', c4']
      · unfold HX92_setElsewhere HX92_setElsewhere_0 HX92_setElsewhere_10 HX92_setElsewhere_24 HX92_setElsewhere_34 HX92_setElsewhere_52
        try dsimp only
        refine ⟨fun q => absurd q m1, fun _ => ⟨fun _ => ?_, fun q => absurd i3 q⟩⟩
        try dsimp only
        rw [hcl, y7]
        refine ⟨in4, n96, fun q => absurd q m2, fun _ => ⟨fun _ => ?_, fun q => absurd i3 q⟩⟩
        try dsimp only
        rw [x7]
        exact ⟨in4', fun q => absurd q m2, fun _ => ⟨n96', t1⟩⟩
      · unfold GX92_setElsewhere GX92_setElsewhere_0 GX92_setElsewhere_10 GX92_setElsewhere_24 GX92_setElsewhere_34 GX92_setElsewhere_52
        try dsimp only
        rw [fi_neg m1, fi_pos i3]
        try dsimp only
        rw [fi_neg m2, fi_pos i3, fi_neg m2, hcl, y7, x7, t2, g4']
/-- the end of an access -/
theorem acc_end (R : RelP p h bd a fu cf rg u t hv kp fd m c1 f1 d1 w1 hq s dd x dk q rq r g sg bl cr np kn (some w) fs B Bk Vv K F T rt tb Mc Mt) (hl : Mt.1 354 c1 0 = Int32.ofInt 2 ∨ Mt.1 354 c1 0 = Int32.ofInt 4) (v : Int64) :
    ∃ X Y, (HX46_access_111 p v Mc ∧ GX46_access_111 p v Mc = (Int32.ofInt 1, X)) ∧ (HX92_access_102 m (nI h) v Mt ∧ GX92_access_102 m (nI h) v Mt = (Int32.ofInt 1, Y)) ∧ RelP p h bd a fu cf rg u t hv kp fd m c1 f1 d1 w1 hq s dd x dk q rq r g sg bl cr np kn none fs B Bk Vv K F T rt tb X Y ∧ RamQ r Mc X ∧ Br m h sg Y Mt := by
  obtain ⟨X, Y, ⟨f1_, f2_⟩, ⟨g1_, g2_⟩, R4, rq4, kc4, kt4⟩ := P_ifin R hl (Int32.ofInt 1) v
  obtain ⟨y0, y1, y2, y3, ⟨y4, y5⟩, yr⟩ := R.2.1.1
  have hcl : (nI h).toNatClampNeg = h := o_cl (by omega)
  have v2 : Mc.2.2 211 p 0 = a := R.1.1.2.2.2.1
  refine ⟨X, Y, ⟨?_, ?_⟩, ⟨?_, ?_⟩, R4, rq4, b316 kt4 (by decide) R⟩
  · unfold HX46_access_111
    try dsimp only
    rw [v2]
    exact ⟨f1_, trivial⟩
  · unfold GX46_access_111
    try dsimp only
    rw [v2, f2_]
  · unfold HX92_access_102
    try dsimp only
    rw [hcl, y5]
    exact ⟨in_nI y4 (by omega) (by decide), R.2.2.2.1.2.1, g1_, trivial⟩
  · unfold GX92_access_102
    try dsimp only
    rw [hcl, y5, g2_]
/-- an access to a control register; wr: whether it is written -/
theorem P_access {op wr : Int32} (R : RelP p h bd a fu cf rg u t hv kp fd m c1 f1 d1 w1 hq s dd x dk q rq r g sg bl cr np kn (some w) fs B Bk Vv K F T rt tb Mc Mt) (hl : Mt.1 354 c1 0 = Int32.ofInt 2 ∨ Mt.1 354 c1 0 = Int32.ofInt 4) (hw : fs.2.2.2.1 = Int32.ofInt 0) (Gd : GdC g Mc) (hg : Got p m Mc Mt) (hn : n < 4096) (hop : op = Int32.ofInt 1 ∨ op = Int32.ofInt 2 ∨ op = Int32.ofInt 3) (v : Int64) :
    HX46_access_23 p (nI n) op v wr Mc ∧ HX92_access m (nI h) (nI n) op wr v Mt ∧ OutP p h bd a fu cf rg u t hv kp fd m c1 f1 d1 w1 hq s dd x dk q rq r g sg bl cr np kn B Bk Vv rt tb Mc Mt (GX46_access_23 p (nI n) op v wr Mc) (GX92_access m (nI h) (nI n) op wr v Mt) := by
  have RR := relP_ram R
  obtain ⟨y0, y1, y2, y3, ⟨y4, y5⟩, ⟨y6, y7⟩, ⟨y8, y9⟩, ⟨ya, yb⟩, yc⟩ := R.2.1.1
  have hcl : (nI h).toNatClampNeg = h := o_cl (by omega)
  have in5 : fm_in Mt (Mt.2.2 305 m 0) (nI h) = true := in_nI y8 (by omega) (by decide)
  have nd := R.2.2.2.2.1.2.1.2.1
  have nu := R.2.2.2.2.1.1.2.1
  have v4 : Mc.2.2 213 p 0 = u := R.1.1.2.2.2.2.2.1
  obtain ⟨a1, b1, rr, Nc, Nt, a2, b2, RC, x358, cases3⟩ := rel_access (w := wr) (v := v) R.2.2.2.2.1 RR.1.2.1.2.2.1 hn hop
  have ga := gX74_access u (nI n) op wr v Mc RR.1.1 nu a1
  have gb := gX100_access d1 (nI n) op wr v Mt RR.2.1.1 nd b1
  have kc := wX74_access (SL lX74_access) (fun _ => True) (fun _ h => h) u (nI n) op wr v Mc (wi_N RR.1.2.1) trivial _ ga.1
  have kt := wX100_access (SL lX100_access) (fun _ => True) (fun _ h => h) fN d1 (nI n) op wr v Mt (wi_N RR.2.1.2.1) trivial _ gb.1
  rw [a2] at kc
  rw [b2] at kt
  obtain ⟨R2, rq2⟩ := relP_u (S := lX74_access) (S' := lX100_access) kc kt (by decide) (by decide) RC.1.1 RC.2.1.1 R RC
  have l2 := l354 (S' := lX100_access) kt (by decide) R
  have b316' := b316 (S' := lX100_access) kt (by decide) R
  have hg2 := got_k (S := lX74_access) (S' := lX100_access) kc kt (by decide) (by decide) R hg
  have ng : fm_is Mc 90 90 g = true := by
    obtain ⟨⟨rt0, tb0, VC⟩, _⟩ := R.2.2.2.2.2.2.1
    rw [← VC.2.2.2.2.1]
    exact tN_288 RR.1.1.1 VC.2.2.1
  have Gd2 := gdC_k (S := lX74_access) kc (by decide) RR.1.1 RR.1.2.1 ng Gd
  have v4' : Nc.2.2 213 p 0 = u := R2.1.1.2.2.2.2.2.1
  obtain ⟨x0, x1, x2, x3, ⟨x4, x5⟩, ⟨x6, x7⟩, ⟨x8, x9⟩, ⟨xa, xb⟩, xc⟩ := R2.2.1.1
  rcases cases3 with ⟨r0, hhad, _, _⟩ | ⟨r1, hels⟩ | r2
  · -- the register is here
    have n2 : ¬ rr = Int32.ofInt 2 := by rw [r0]; decide
    have n1 : ¬ rr = Int32.ofInt 1 := by rw [r0]; decide
    have z0 : rr = 0 := r0
    have k5 : WK [358] Nt (fm_sI Nt 358 d1 0 (Int32.ofInt 0)) := WK_I (relP_ram R2).2.1.2.1 R2.2.2.2.2.1.2.1.2.1 rfl rfl _
    have T5 : Ty (fm_sI Nt 358 d1 0 (Int32.ofInt 0)) := ⟨(relP_ram R2).2.1.1.1, tyb_sI rfl (relP_ram R2).2.1.1.2⟩
    have R3 := relP_t k5 (by decide) T5 R2
    have ehad : GX100_had d1 Nt = (Nt.2.1 364 d1 0, fm_sI Nt 358 d1 0 (Int32.ofInt 0)) := rfl
    have l3 := (l354 k5 (by decide) R2).trans l2
    have b3 := (b316 k5 (by decide) R2).trans b316'
    obtain ⟨X, Y, ⟨p1, p2⟩, ⟨q1, q2⟩, R4, rq4, e4⟩ := acc_end R3 (by rw [l3]; exact hl) (Nc.2.1 38 u 0)
    rw [hhad] at q1 q2
    refine ⟨?_, ?_, fs, K, F, T, X, Y, evo_w (evo_q' (evo_q' (evo_r r 0 Mc) rq2) rq4) (by omega), hw, e4.trans b3, Or.inl ⟨?_, ?_, relP_upw (by omega) (by omega) (by omega) R4⟩⟩
    · unfold HX46_access_23
      try dsimp only
      rw [v4, a2]
      refine ⟨a1, fun q => absurd q n2, fun _ => ?_⟩
      try dsimp only
      rw [v4']
      exact ⟨fun q => absurd q n1, fun _ => p1⟩
    · unfold HX92_access HX92_access_0
      try dsimp only
      rw [hcl, y9, b2]
      refine ⟨in5, nd, b1, fun q => absurd q n2, fun _ => ⟨fun _ => ?_, fun q => absurd z0 q⟩⟩
      try dsimp only
      rw [x9, ehad]
      refine ⟨in_nI x8 (by omega) (by decide), R2.2.2.2.2.1.2.1.2.1, ?_⟩
      unfold HX92_access_51
      try dsimp only
      exact ⟨fun q => absurd q n1, fun _ => q1⟩
    · unfold GX46_access_23
      try dsimp only
      rw [v4, a2]
      try dsimp only
      rw [fi_neg n2, fi_neg n1, v4', p2]
    · unfold GX92_access GX92_access_0 GX92_access_51
      try dsimp only
      rw [hcl, y9, b2]
      try dsimp only
      rw [fi_neg n2, fi_pos z0, x9, ehad]
      try dsimp only
      rw [fi_neg n1, q2]
  · -- it is elsewhere
    have n2 : ¬ rr = Int32.ofInt 2 := by rw [r1]; decide
    have z0 : ¬ rr = 0 := by rw [r1]; decide
    obtain ⟨ev, Y1, ⟨p1, p2⟩, ⟨q1, q2⟩, R3, k3⟩ := P_else R2 hn hels
    have l3 := (l354 k3 (by decide) R2).trans l2
    have b3 := (b316 k3 (by decide) R2).trans b316'
    have UG : ∀ Z, GX46_access_23 p (nI n) op v wr Mc = Z ↔ fi (wr = 0) (GX46_access_111 p ev Nc) (fi (op = Int32.ofInt 1) (GX46_access_108 p ev p (nI n) v Nc) (fi (op = Int32.ofInt 2) (GX46_access_108 p ev p (nI n) (ev ||| v) Nc) (GX46_access_108 p ev p (nI n) (ev &&& (v ^^^ Int64.ofInt (-1))) Nc))) = Z := by
      intro Z
      unfold GX46_access_23
      try dsimp only
      rw [v4, a2]
      try dsimp only
      rw [fi_neg n2, fi_pos r1, p2]
    have UT : ∀ Z, GX92_access m (nI h) (nI n) op wr v Mt = Z ↔ fi (wr = 0) (GX92_access_102 m (nI h) ev Y1) (fi (op = Int32.ofInt 1) (GX92_access_99 m (nI h) ev m (nI h) (nI n) v Y1) (fi (op = Int32.ofInt 2) (GX92_access_99 m (nI h) ev m (nI h) (nI n) (ev ||| v) Y1) (GX92_access_99 m (nI h) ev m (nI h) (nI n) (ev &&& (v ^^^ Int64.ofInt (-1))) Y1))) = Z := by
      intro Z
      unfold GX92_access GX92_access_0 GX92_access_51
      try dsimp only
      rw [hcl, y9, b2]
      try dsimp only
      rw [fi_neg n2, fi_neg z0, q2]
      try dsimp only
      rw [fi_pos r1]
    have HG : ((wr = 0 → HX46_access_111 p ev Nc) ∧ (¬ wr = 0 → (op = Int32.ofInt 1 → HX46_access_108 p ev p (nI n) v Nc) ∧ (¬ op = Int32.ofInt 1 → (op = Int32.ofInt 2 → HX46_access_108 p ev p (nI n) (ev ||| v) Nc) ∧ (¬ op = Int32.ofInt 2 → HX46_access_108 p ev p (nI n) (ev &&& (v ^^^ Int64.ofInt (-1))) Nc)))) → HX46_access_23 p (nI n) op v wr Mc := by
      intro q
      unfold HX46_access_23
      try dsimp only
      rw [v4, a2]
      refine ⟨a1, fun z => absurd z n2, fun _ => ?_⟩
      try dsimp only
      rw [v4', p2]
      exact ⟨fun _ => ⟨p1, q⟩, fun z => absurd r1 z⟩
    have HT : ((wr = 0 → HX92_access_102 m (nI h) ev Y1) ∧ (¬ wr = 0 → (op = Int32.ofInt 1 → HX92_access_99 m (nI h) ev m (nI h) (nI n) v Y1) ∧ (¬ op = Int32.ofInt 1 → (op = Int32.ofInt 2 → HX92_access_99 m (nI h) ev m (nI h) (nI n) (ev ||| v) Y1) ∧ (¬ op = Int32.ofInt 2 → HX92_access_99 m (nI h) ev m (nI h) (nI n) (ev &&& (v ^^^ Int64.ofInt (-1))) Y1)))) → HX92_access m (nI h) (nI n) op wr v Mt := by
      intro q
      unfold HX92_access HX92_access_0
      try dsimp only
      rw [hcl, y9, b2]
      refine ⟨in5, nd, b1, fun z => absurd z n2, fun _ => ⟨fun z => absurd z z0, fun _ => ?_⟩⟩
      try dsimp only
      rw [q2]
      refine ⟨q1, ?_⟩
      unfold HX92_access_51
      try dsimp only
      exact ⟨fun _ => q, fun z => absurd r1 z⟩
    -- with a write of x
    have W1 : ∀ xx : Int64, HX46_access_108 p ev p (nI n) xx Nc ∧ HX92_access_99 m (nI h) ev m (nI h) (nI n) xx Y1 ∧ OutP p h bd a fu cf rg u t hv kp fd m c1 f1 d1 w1 hq s dd x dk q rq r g sg bl cr np kn B Bk Vv rt tb Mc Mt (GX46_access_108 p ev p (nI n) xx Nc) (GX92_access_99 m (nI h) ev m (nI h) (nI n) xx Y1) := by
      intro xx
      obtain ⟨X5, Y5, fs5, K5, F5, T5, ⟨s1, s2⟩, ⟨t1, t2⟩, R5, hw5, rq5, k5⟩ := P_putE R3 hw Gd2 hn hels xx
      have l5 := (l354 k5 (by decide) R3).trans l3
      have b5 := (b316 k5 (by decide) R3).trans b3
      obtain ⟨X6, Y6, ⟨c1_, c2_⟩, ⟨d1_, d2_⟩, R6, rq6, e6⟩ := acc_end R5 (by rw [l5]; exact hl) ev
      refine ⟨?_, ?_, fs5, K5, F5, T5, X6, Y6, evo_w (evo_q' (evo_q' (evo_q' (evo_r r 0 Mc) rq2) rq5) rq6) (by omega), hw5, e6.trans b5, Or.inl ⟨?_, ?_, relP_upw (by omega) (by omega) (Nat.le_refl _) R6⟩⟩
      · unfold HX46_access_108
        try dsimp only
        rw [s2]
        exact ⟨s1, c1_⟩
      · unfold HX92_access_99
        try dsimp only
        rw [t2]
        exact ⟨t1, d1_⟩
      · unfold GX46_access_108
        try dsimp only
        rw [s2, c2_]
      · unfold GX92_access_99
        try dsimp only
        rw [t2, d2_]
    have W0 : HX46_access_111 p ev Nc ∧ HX92_access_102 m (nI h) ev Y1 ∧ OutP p h bd a fu cf rg u t hv kp fd m c1 f1 d1 w1 hq s dd x dk q rq r g sg bl cr np kn B Bk Vv rt tb Mc Mt (GX46_access_111 p ev Nc) (GX92_access_102 m (nI h) ev Y1) := by
      obtain ⟨X6, Y6, ⟨c1_, c2_⟩, ⟨d1_, d2_⟩, R6, rq6, e6⟩ := acc_end R3 (by rw [l3]; exact hl) ev
      exact ⟨c1_, d1_, fs, K, F, T, X6, Y6, evo_w (evo_q' (evo_q' (evo_r r 0 Mc) rq2) rq6) (by omega), hw, e6.trans b3, Or.inl ⟨c2_, d2_, relP_upw (by omega) (by omega) (by omega) R6⟩⟩
    refine ⟨HG ⟨fun _ => W0.1, fun _ => ⟨fun _ => (W1 _).1, fun _ => ⟨fun _ => (W1 _).1, fun _ => (W1 _).1⟩⟩⟩, HT ⟨fun _ => W0.2.1, fun _ => ⟨fun _ => (W1 _).2.1, fun _ => ⟨fun _ => (W1 _).2.1, fun _ => (W1 _).2.1⟩⟩⟩, ?_⟩
    by_cases w0 : wr = 0
    · rw [(UG _).mpr (fi_pos w0), (UT _).mpr (fi_pos w0)]
      exact W0.2.2
    by_cases o1 : op = Int32.ofInt 1
    · rw [(UG _).mpr ((fi_neg w0).trans (fi_pos o1)), (UT _).mpr ((fi_neg w0).trans (fi_pos o1))]
      exact (W1 _).2.2
    by_cases o2 : op = Int32.ofInt 2
    · rw [(UG _).mpr ((fi_neg w0).trans ((fi_neg o1).trans (fi_pos o2))), (UT _).mpr ((fi_neg w0).trans ((fi_neg o1).trans (fi_pos o2)))]
      exact (W1 _).2.2
    · rw [(UG _).mpr ((fi_neg w0).trans ((fi_neg o1).trans (fi_neg o2))), (UT _).mpr ((fi_neg w0).trans ((fi_neg o1).trans (fi_neg o2)))]
      exact (W1 _).2.2
  · -- it may not be touched
    refine ⟨?_, ?_, ?_⟩
    · unfold HX46_access_23
      try dsimp only
      rw [v4, a2]
      exact ⟨a1, fun _ => trivial, fun z => absurd r2 z⟩
    · unfold HX92_access HX92_access_0
      try dsimp only
      rw [hcl, y9, b2]
      exact ⟨in5, nd, b1, fun _ => trivial, fun z => absurd r2 z⟩
    · have g1 : GX46_access_23 p (nI n) op v wr Mc = GX46_illegal p Nc := by
        unfold GX46_access_23
        try dsimp only
        rw [v4, a2]
        try dsimp only
        rw [fi_pos r2]
      have g2 : GX92_access m (nI h) (nI n) op wr v Mt = GX92_illegal m Nt := by
        unfold GX92_access GX92_access_0
        try dsimp only
        rw [hcl, y9, b2]
        try dsimp only
        rw [fi_pos r2]
      rw [g1, g2]
      exact out_t (evo_q' (evo_r r 0 Mc) rq2) b316' (out_i R2 hw hg2)
end Em
