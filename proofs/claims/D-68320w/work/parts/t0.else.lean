/-! a processor against the twin's: control registers that lie elsewhere -/
set_option maxRecDepth 100000
theorem fl_or {a : Int32} {b : Nat} (ha : ui a < 32) (hb : b < 8) : ui (a ||| (nI b <<< (Int32.ofInt 5 &&& 31))) = ui a + 32 * b := by
  try dsimp only
  rw [ui_or, ui_shl, ui_nI, show ui (Int32.ofInt 5) % 32 = 5 from rfl, Nat.mod_eq_of_lt (show b < 4294967296 by omega), Nat.mod_eq_of_lt (show b * 2 ^ 5 < 4294967296 by omega)]
  have e := Nat.two_pow_add_eq_or_of_lt (i := 5) (b := ui a) ha b
  rw [Nat.or_comm, Nat.mul_comm b (2 ^ 5), ← e]
  omega
theorem fl_1 {a : Int32} {b : Nat} (ha : ui a < 32) (hb : b < 8) : (a ||| (nI b <<< (Int32.ofInt 5 &&& 31))) &&& Int32.ofInt 31 = a := by
  apply ui_inj
  rw [ui_and, fl_or ha hb, show ui (Int32.ofInt 31) = 2 ^ 5 - 1 from rfl, Nat.and_two_pow_sub_one_eq_mod]
  omega
theorem fl_2 {a : Int32} {b : Nat} (ha : ui a < 32) (hb : b < 8) : (a ||| (nI b <<< (Int32.ofInt 5 &&& 31))) >>> (Int32.ofInt 5 &&& 31) = nI b := by
  apply ui_inj
  rw [ui_sar0 _ _ (by rw [fl_or ha hb]; omega), fl_or ha hb, ui_nI, show ui (Int32.ofInt 5) % 32 = 5 from rfl]
  omega
theorem fl_3 {a : Int32} {b : Nat} (ha : ui a < 32) (hb : b < 8) : (a ||| (nI b <<< (Int32.ofInt 5 &&& 31))) = a + Int32.ofInt 32 * nI b := by
  apply ui_inj
  rw [fl_or ha hb, ui_add, ui_mul, ui_nI, show ui (Int32.ofInt 32) = 32 from rfl]
  omega
theorem and_and31 (x : Int32) : (x &&& Int32.ofInt 31) &&& Int32.ofInt 31 = x &&& Int32.ofInt 31 := by
  apply ui_inj
  rw [ui_and, ui_and, show ui (Int32.ofInt 31) = 2 ^ 5 - 1 from rfl, Nat.and_two_pow_sub_one_eq_mod, Nat.and_two_pow_sub_one_eq_mod]
  omega
theorem and7_8 (x : Int32) : ui (x &&& Int32.ofInt 7) % 8 = ui x % 8 := by
  try dsimp only
  rw [ui_and, show ui (Int32.ofInt 7) = 2 ^ 3 - 1 from rfl, Nat.and_two_pow_sub_one_eq_mod]
  omega
section El
variable {p h bd a fu rg u t hv kp fd m c1 f1 d1 w1 hq s dd x dk q rq r g sg bl cr np : Nat} {cf : Nat → Nat} {kn : Int32} {o : Option Wt} {fs fs' : Fs} {B Bk Vv : Nat} {K : Rg} {F T : Nat → Nat} {rt : Int32} {tb : Int64} {S S' : List Nat} {Mc Mt Nc Nt : FM} {n : Nat}
theorem P_else (R : RelP p h bd a fu cf rg u t hv kp fd m c1 f1 d1 w1 hq s dd x dk q rq r g sg bl cr np kn o fs B Bk Vv K F T rt tb Mc Mt) (hn : n < 4096) (he : els n) :
    ∃ v Y, (HX46_elsewhere p (nI n) Mc ∧ GX46_elsewhere p (nI n) Mc = (v, Mc)) ∧ (HX92_elsewhere m (nI h) (nI n) Mt ∧ GX92_elsewhere m (nI h) (nI n) Mt = (v, Y)) ∧ RelP p h bd a fu cf rg u t hv kp fd m c1 f1 d1 w1 hq s dd x dk q rq r g sg bl cr np kn o fs B Bk Vv K F T rt tb Mc Y ∧ WK [366, 422] Mt Y := by
  have RR := relP_ram R
  obtain ⟨y0, y1, y2, y3, ⟨y4, y5⟩, ⟨y6, y7⟩, ⟨y8, y9⟩, ⟨ya, yb⟩, yc⟩ := R.2.1.1
  have hcl : (nI h).toNatClampNeg = h := o_cl (by omega)
  have in4 : fm_in Mt (Mt.2.2 304 m 0) (nI h) = true := in_nI y6 (by omega) (by decide)
  have in6 : fm_in Mt (Mt.2.2 306 m 0) (nI h) = true := in_nI ya (by omega) (by decide)
  obtain ⟨oc, ot, vc, vt, vi⟩ := id R.2.2.2.2.2.1
  have n96 := ot.2.1
  obtain ⟨⟨rt0, tb0, VC⟩, VT, I, C, _⟩ := id R.2.2.2.2.2.2.1
  have v3 : Mc.2.2 212 p 0 = fu := R.1.1.2.2.2.2.1
  have v5 : Mc.2.2 214 p 0 = t := R.1.1.2.2.2.2.2.2.1
  have e288 : Mc.2.2 288 t 0 = g := VC.2.2.2.2.1
  have ng : fm_is Mc 90 90 g = true := by
    try dsimp only
    rw [← e288]
    exact tN_288 RR.1.1.1 VC.2.2.1
  have e94 : Mc.2.2 94 fu 0 = cf 12 := oc.1.2.2.2.2.2.1
  have k1 : WK [366] Mt (fm_sI Mt 366 f1 0 (Int32.ofInt 0)) := WK_I RR.2.1.2.1 n96 rfl rfl _
  have T1 : Ty (fm_sI Mt 366 f1 0 (Int32.ofInt 0)) := ⟨RR.2.1.1.1, tyb_sI rfl RR.2.1.1.2⟩
  have R1 := relP_t k1 (by decide) T1 R
  have k1' : WK [366, 422] Mt (fm_sI Mt 366 f1 0 (Int32.ofInt 0)) := WK_s (by decide) k1
  obtain ⟨tf, tm, _, _⟩ := t_told vt
  have x91 : Mc.1 91 (cf 12) 0 = fs.2.1 := vc.2.1
  have x95 : Mc.1 95 fu 0 = nI fs.2.2.1 := vc.2.2.1
  by_cases c4 : 4 ≤ n
  · have g4 : Int32.ofInt 4 ≤ nI n := (nge hn 4 (by decide)).mpr (by omega)
    have m1 : ¬ nI n = Int32.ofInt 1 := fun q => by have := (neq hn 1 (by decide)).mp q; omega
    have m2 : ¬ nI n = Int32.ofInt 2 := fun q => by have := (neq hn 2 (by decide)).mp q; omega
    have m3 : ¬ nI n = Int32.ofInt 3 := fun q => by have := (neq hn 3 (by decide)).mp q; omega
    by_cases c928 : n = 928
    · have q9 : nI n = Int32.ofInt 928 := (neq hn 928 (by decide)).mpr (by omega)
      obtain ⟨a1, a2⟩ := X86_configs RR.1.1 ng (fun i hi => ⟨(VC.2.2.2.2.2.1 i hi).1, (VC.2.2.2.2.2.1 i hi).2.1⟩) I
      obtain ⟨Y, ⟨b1, b2⟩, TY, fr, V'⟩ := X101_configs RR.2.1.1 VT.1 VT.2.2.2.1
      have gb := gX101_configs w1 Mt b1
      have kt := wX101_configs (SL lX101_configs) (fun _ => True) (fun _ h => h) fN w1 Mt (wi_N RR.2.1.2.1) trivial _ gb.1
      rw [b2] at kt
      refine ⟨cgs K.1 8 (Int64.ofInt 0), Y, ⟨?_, ?_⟩, ⟨?_, ?_⟩, relP_t (S' := lX101_configs) kt (by decide) TY R, WK_s (S := lX101_configs) (by decide) kt⟩
      · unfold HX46_elsewhere HX46_elsewhere_0
        try dsimp only
        refine ⟨fun _ => ⟨fun _ => ?_, fun q => absurd q9 q⟩, fun q => absurd g4 q⟩
        try dsimp only
        rw [v5, e288]
        exact ⟨a1, trivial⟩
      · unfold GX46_elsewhere GX46_elsewhere_0
        try dsimp only
        rw [fi_pos g4, fi_pos q9]
        try dsimp only
        rw [v5, e288, a2]
      · unfold HX92_elsewhere HX92_elsewhere_0
        try dsimp only
        refine ⟨fun q => absurd q m1, fun _ => ⟨fun q => absurd q m2, fun _ => ⟨fun q => absurd q m3, fun _ => ⟨fun _ => ?_, fun q => absurd q9 q⟩⟩⟩⟩
        try dsimp only
        rw [hcl, yb]
        exact ⟨in6, VT.1, b1, trivial⟩
      · unfold GX92_elsewhere GX92_elsewhere_0
        try dsimp only
        rw [fi_neg m1, fi_neg m2, fi_neg m3, fi_pos q9]
        try dsimp only
        rw [hcl, yb, b2]
    · have q9 : ¬ nI n = Int32.ofInt 928 := fun q => by have := (neq hn 928 (by decide)).mp q; omega
      by_cases c944 : 944 ≤ n ∧ n < 952
      · obtain ⟨i, hi, rfl⟩ : ∃ i, i < 8 ∧ n = 944 + i := ⟨n - 944, by omega, by omega⟩
        have l944 : ¬ nI (944 + i) < Int32.ofInt 944 := fun q => by have := (nlt hn 944 (by decide)).mp q; omega
        have g952 : ¬ Int32.ofInt 952 ≤ nI (944 + i) := fun q => by have := (nge hn 952 (by decide)).mp q; omega
        have es : nI (944 + i) - Int32.ofInt 944 = nI i := by
          apply ui_inj
          rw [ui_sub, ui_nI, ui_nI, show ui (Int32.ofInt 944) = 944 from rfl]
          omega
        have hci : (nI i).toNatClampNeg = i := o_cl (by omega)
        obtain ⟨Y, ⟨b1, b2⟩, TY, fr, V'⟩ := X101_number RR.2.1.1 VT.1 VT.2.2.2.1 hi
        have gb := gX101_number w1 (nI i) Mt RR.2.1.1 VT.1 b1
        have kt := wX101_number (SL lX101_number) (fun _ => True) (fun _ h => h) w1 (nI i) Mt (wi_N RR.2.1.2.1) trivial _ gb.1
        rw [b2] at kt
        have e281 : Mc.2.1 281 (Mc.2.2 3 (Mc.2.2 284 g 0) i) 0 = lN (K.2 i) := (VC.2.2.2.2.2.1 i hi).2.1
        refine ⟨lN (K.2 i), Y, ⟨?_, ?_⟩, ⟨?_, ?_⟩, relP_t (S' := lX101_number) kt (by decide) TY R, WK_s (S := lX101_number) (by decide) kt⟩
        · unfold HX46_elsewhere HX46_elsewhere_0
          try dsimp only
          refine ⟨fun _ => ⟨fun q => absurd q q9, fun _ => ⟨fun q => absurd q l944, fun _ => ⟨fun q => absurd q g952, fun _ => ?_⟩⟩⟩, fun q => absurd g4 q⟩
          try dsimp only
          rw [v5, e288, es]
          exact ⟨in_nI (tL_284 RR.1.1.1 ng) hi (by decide), trivial⟩
        · unfold GX46_elsewhere GX46_elsewhere_0 GX46_elsewhere_109
          try dsimp only
          rw [fi_pos g4, fi_neg q9, fi_neg l944, fi_neg g952]
          try dsimp only
          rw [v5, e288, es, hci, e281]
        · unfold HX92_elsewhere HX92_elsewhere_0
          try dsimp only
          refine ⟨fun q => absurd q m1, fun _ => ⟨fun q => absurd q m2, fun _ => ⟨fun q => absurd q m3, fun _ => ⟨fun q => absurd q q9, fun _ => ⟨fun q => absurd q l944, fun _ => ⟨fun q => absurd q g952, fun _ => ?_⟩⟩⟩⟩⟩⟩
          try dsimp only
          rw [hcl, yb, es]
          exact ⟨in6, VT.1, b1, trivial⟩
        · unfold GX92_elsewhere GX92_elsewhere_0 GX92_elsewhere_132
          try dsimp only
          rw [fi_neg m1, fi_neg m2, fi_neg m3, fi_neg q9, fi_neg l944, fi_neg g952]
          try dsimp only
          rw [hcl, yb, es, b2]
      · have hc : GX46_elsewhere p (nI n) Mc = (Int64.ofInt 0, Mc) ∧ HX46_elsewhere p (nI n) Mc ∧ GX92_elsewhere m (nI h) (nI n) Mt = (Int64.ofInt 0, Mt) ∧ HX92_elsewhere m (nI h) (nI n) Mt := by
          by_cases l : n < 944
          · have l944 : nI n < Int32.ofInt 944 := (nlt hn 944 (by decide)).mpr (by omega)
            refine ⟨?_, ?_, ?_, ?_⟩
            · unfold GX46_elsewhere GX46_elsewhere_0 GX46_elsewhere_108 GX46_elsewhere_109
              try dsimp only
              rw [fi_pos g4, fi_neg q9, fi_pos l944]
            · unfold HX46_elsewhere HX46_elsewhere_0
              try dsimp only
              exact ⟨fun _ => ⟨fun q => absurd q q9, fun _ => ⟨fun _ => trivial, fun q => absurd l944 q⟩⟩, fun q => absurd g4 q⟩
            · unfold GX92_elsewhere GX92_elsewhere_0 GX92_elsewhere_131 GX92_elsewhere_132
              try dsimp only
              rw [fi_neg m1, fi_neg m2, fi_neg m3, fi_neg q9, fi_pos l944]
            · unfold HX92_elsewhere HX92_elsewhere_0
              try dsimp only
              exact ⟨fun q => absurd q m1, fun _ => ⟨fun q => absurd q m2, fun _ => ⟨fun q => absurd q m3, fun _ => ⟨fun q => absurd q q9, fun _ => ⟨fun _ => trivial, fun q => absurd l944 q⟩⟩⟩⟩⟩
          · have l944 : ¬ nI n < Int32.ofInt 944 := fun q => by have := (nlt hn 944 (by decide)).mp q; omega
            have g952 : Int32.ofInt 952 ≤ nI n := (nge hn 952 (by decide)).mpr (by omega)
            refine ⟨?_, ?_, ?_, ?_⟩
            · unfold GX46_elsewhere GX46_elsewhere_0 GX46_elsewhere_108 GX46_elsewhere_109
              try dsimp only
              rw [fi_pos g4, fi_neg q9, fi_neg l944, fi_pos g952]
            · unfold HX46_elsewhere HX46_elsewhere_0
              try dsimp only
              exact ⟨fun _ => ⟨fun q => absurd q q9, fun _ => ⟨fun q => absurd q l944, fun _ => ⟨fun _ => trivial, fun q => absurd g952 q⟩⟩⟩, fun q => absurd g4 q⟩
            · unfold GX92_elsewhere GX92_elsewhere_0 GX92_elsewhere_131 GX92_elsewhere_132
              try dsimp only
              rw [fi_neg m1, fi_neg m2, fi_neg m3, fi_neg q9, fi_neg l944, fi_pos g952]
            · unfold HX92_elsewhere HX92_elsewhere_0
              try dsimp only
              exact ⟨fun q => absurd q m1, fun _ => ⟨fun q => absurd q m2, fun _ => ⟨fun q => absurd q m3, fun _ => ⟨fun q => absurd q q9, fun _ => ⟨fun q => absurd q l944, fun _ => ⟨fun _ => trivial, fun q => absurd g952 q⟩⟩⟩⟩⟩⟩
        exact ⟨_, Mt, ⟨hc.2.1, hc.1⟩, ⟨hc.2.2.2, hc.2.2.1⟩, R, WK_r RR.2.1.2.1⟩
  · have g4 : ¬ Int32.ofInt 4 ≤ nI n := fun q => by have := (nge hn 4 (by decide)).mp q; omega
    have HC : HX46_elsewhere p (nI n) Mc := by
      unfold HX46_elsewhere HX46_elsewhere_0
      try dsimp only
      exact ⟨fun q => absurd q g4, fun _ => trivial⟩
    have : n = 1 ∨ n = 2 ∨ n = 3 := by omega
    rcases this with rfl | rfl | rfl
    · refine ⟨fs.2.1.toInt64, _, ⟨HC, ?_⟩, ⟨?_, ?_⟩, R1, k1'⟩
      · unfold GX46_elsewhere GX46_elsewhere_0 GX46_elsewhere_53
        try dsimp only
        rw [fi_neg g4]
        try dsimp only
        rw [fi_pos (show nI 1 = Int32.ofInt 1 from rfl), v3, e94, x91, x95, fl_1 vi.1 vi.2]
      · unfold HX92_elsewhere HX92_elsewhere_0
        try dsimp only
        refine ⟨fun _ => ?_, fun q => absurd rfl q⟩
        try dsimp only
        rw [hcl, y7]
        exact ⟨in4, n96, trivial⟩
      · unfold GX92_elsewhere GX92_elsewhere_0
        try dsimp only
        rw [fi_pos (show nI 1 = Int32.ofInt 1 from rfl)]
        try dsimp only
        rw [hcl, y7, tf]
    · have m1 : ¬ nI 2 = Int32.ofInt 1 := by decide
      refine ⟨(nI fs.2.2.1).toInt64, _, ⟨HC, ?_⟩, ⟨?_, ?_⟩, R1, k1'⟩
      · unfold GX46_elsewhere GX46_elsewhere_0 GX46_elsewhere_53
        try dsimp only
        rw [fi_neg g4]
        try dsimp only
        rw [fi_neg m1, fi_pos (show nI 2 = Int32.ofInt 2 from rfl), v3, e94, x91, x95, fl_2 vi.1 vi.2]
      · unfold HX92_elsewhere HX92_elsewhere_0
        try dsimp only
        refine ⟨fun q => absurd q m1, fun _ => ⟨fun _ => ?_, fun q => absurd rfl q⟩⟩
        try dsimp only
        rw [hcl, y7]
        exact ⟨in4, n96, trivial⟩
      · unfold GX92_elsewhere GX92_elsewhere_0
        try dsimp only
        rw [fi_neg m1, fi_pos (show nI 2 = Int32.ofInt 2 from rfl)]
        try dsimp only
        rw [hcl, y7, tm]
    · have m1 : ¬ nI 3 = Int32.ofInt 1 := by decide
      have m2 : ¬ nI 3 = Int32.ofInt 2 := by decide
      have y7' : (fm_sI Mt 366 f1 0 (Int32.ofInt 0)).2.2 3 ((fm_sI Mt 366 f1 0 (Int32.ofInt 0)).2.2 304 m 0) h = f1 := y7
      have vt' := R1.2.2.2.2.2.1.2.2.2.1
      have tm' := (t_told vt').2.1
      rw [fm_II] at tm'
      refine ⟨(fs.2.1 + Int32.ofInt 32 * nI fs.2.2.1).toInt64, _, ⟨HC, ?_⟩, ⟨?_, ?_⟩, R1, k1'⟩
      · unfold GX46_elsewhere GX46_elsewhere_0 GX46_elsewhere_53
        try dsimp only
        rw [fi_neg g4]
        try dsimp only
        rw [fi_neg m1, fi_neg m2, v3, e94, x91, x95, fl_3 vi.1 vi.2]
      · unfold HX92_elsewhere HX92_elsewhere_0
        try dsimp only
        refine ⟨fun q => absurd q m1, fun _ => ⟨fun q => absurd q m2, fun _ => ⟨fun _ => ?_, fun q => absurd rfl q⟩⟩⟩
        try dsimp only
        rw [hcl, y7, tf]
        try dsimp only
        rw [y7']
        exact ⟨in4, n96, in4, n96, trivial⟩
      · unfold GX92_elsewhere GX92_elsewhere_0
        try dsimp only
        rw [fi_neg m1, fi_neg m2, fi_pos (show nI 3 = Int32.ofInt 3 from rfl)]
        try dsimp only
        rw [hcl, y7, tf]
        try dsimp only
        rw [y7', tm']
/-- a small step of the floats on both sides -/
theorem relP_ff (kc : WK S Mc Nc) (kt : WK S' Mt Nt) (hc : dj uCf S = true) (ht' : dj uTf S' = true) (R : RelP p h bd a fu cf rg u t hv kp fd m c1 f1 d1 w1 hq s dd x dk q rq r g sg bl cr np kn o fs B Bk Vv K F T rt tb Mc Mt) (a1 : FrU fu cf rg Mc Nc) (a2 : VFc fu cf rg Nc fs') (b1 : FrTF f1 Mt Nt) (b2 : VFw f1 Nt fs') (vi : VIs fs') :
    RelP p h bd a fu cf rg u t hv kp fd m c1 f1 d1 w1 hq s dd x dk q rq r g sg bl cr np kn o fs' B Bk Vv K F T rt tb Nc Nt ∧ RamQ r Mc Nc := relP_f kc kt hc ht' a1.1 b1.1 R ⟨flU_f R.2.2.2.2.2.1.1 a1, flO_T R.2.2.2.2.2.1.2.1 b1, a2, b2, vi⟩
theorem calm_e (hw : fs.2.2.2.1 = Int32.ofInt 0) : sCalm fs = fs := by
  obtain ⟨a, b, c, d, e⟩ := fs
  have : d = Int32.ofInt 0 := hw
  subst this
  rfl
/-- the twin's floats are calm; the component's, where they were -/
theorem P_calmT (R : RelP p h bd a fu cf rg u t hv kp fd m c1 f1 d1 w1 hq s dd x dk q rq r g sg bl cr np kn o fs B Bk Vv K F T rt tb Mc Mt) (hw : fs.2.2.2.1 = Int32.ofInt 0) : RelP p h bd a fu cf rg u t hv kp fd m c1 f1 d1 w1 hq s dd x dk q rq r g sg bl cr np kn o fs B Bk Vv K F T rt tb Mc (GX99_calm f1 Mt) ∧ WK lX99_calm Mt (GX99_calm f1 Mt) ∧ HX92_setElsewhere_108 m (nI h) Mt ∧ GX92_setElsewhere_108 m (nI h) Mt = GX99_calm f1 Mt := by
  have RR := relP_ram R
  obtain ⟨y0, y1, y2, y3, ⟨y4, y5⟩, ⟨y6, y7⟩, ⟨y8, y9⟩, ⟨ya, yb⟩, yc⟩ := R.2.1.1
  have hcl : (nI h).toNatClampNeg = h := o_cl (by omega)
  obtain ⟨oc, ot, vc, vt, vi⟩ := id R.2.2.2.2.2.1
  obtain ⟨f1_, f2_⟩ := X99_calm ot vt
  have g1 := gX99_calm f1 Mt RR.2.1.1 ot.2.1
  have kt : WK lX99_calm Mt (GX99_calm f1 Mt) := wX99_calm (SL lX99_calm) (fun _ => True) (fun _ h => h) f1 Mt (wi_N RR.2.1.2.1) trivial _ g1.1
  rw [calm_e hw] at f2_
  obtain ⟨R2, _⟩ := relP_f (S := []) (S' := lX99_calm) (WK_r RR.1.2.1) kt (by decide) (by decide) RR.1.1 g1.2.1 R (fs' := fs) ⟨oc, flO_T ot f1_, vc, f2_, vi⟩
  refine ⟨R2, kt, ?_, ?_⟩
  · unfold HX92_setElsewhere_108
    try dsimp only
    rw [hcl, y7]
    exact ⟨in_nI y6 (by omega) (by decide), ot.2.1, trivial⟩
  · unfold GX92_setElsewhere_108
    try dsimp only
    rw [hcl, y7]
/-- both sides' floats are calm -/
theorem P_calmB (R : RelP p h bd a fu cf rg u t hv kp fd m c1 f1 d1 w1 hq s dd x dk q rq r g sg bl cr np kn o fs B Bk Vv K F T rt tb Mc Mt) : RelP p h bd a fu cf rg u t hv kp fd m c1 f1 d1 w1 hq s dd x dk q rq r g sg bl cr np kn o (sCalm fs) B Bk Vv K F T rt tb (GX59_calm fu Mc) (GX99_calm f1 Mt) ∧ RamQ r Mc (GX59_calm fu Mc) ∧ WK lX99_calm Mt (GX99_calm f1 Mt) ∧ HX92_setElsewhere_108 m (nI h) Mt ∧ GX92_setElsewhere_108 m (nI h) Mt = GX99_calm f1 Mt ∧ GX46_putElsewhere_98 p Mc = GX59_calm fu Mc := by
  have RR := relP_ram R
  obtain ⟨y0, y1, y2, y3, ⟨y4, y5⟩, ⟨y6, y7⟩, ⟨y8, y9⟩, ⟨ya, yb⟩, yc⟩ := R.2.1.1
  have hcl : (nI h).toNatClampNeg = h := o_cl (by omega)
  obtain ⟨oc, ot, vc, vt, vi⟩ := id R.2.2.2.2.2.1
  obtain ⟨f1_, f2_⟩ := X99_calm ot vt
  obtain ⟨f3_, f4_⟩ := X59_calm oc vc
  have g1 := gX99_calm f1 Mt RR.2.1.1 ot.2.1
  have g2 := gX59_calm fu Mc RR.1.1 oc.1.2.1
  have kt : WK lX99_calm Mt (GX99_calm f1 Mt) := wX99_calm (SL lX99_calm) (fun _ => True) (fun _ h => h) f1 Mt (wi_N RR.2.1.2.1) trivial _ g1.1
  have kc : WK lX59_calm Mc (GX59_calm fu Mc) := wX59_calm (SL lX59_calm) (fun _ => True) (fun _ h => h) fu Mc (wi_N RR.1.2.1) trivial _ g2.1
  obtain ⟨R2, rq⟩ := relP_ff kc kt (by decide) (by decide) R f3_ f4_ f1_ f2_ vi
  have v3 : Mc.2.2 212 p 0 = fu := R.1.1.2.2.2.2.1
  refine ⟨R2, rq, kt, ?_, ?_, ?_⟩
  · unfold HX92_setElsewhere_108
    try dsimp only
    rw [hcl, y7]
    exact ⟨in_nI y6 (by omega) (by decide), ot.2.1, trivial⟩
  · unfold GX92_setElsewhere_108
    try dsimp only
    rw [hcl, y7]
  · unfold GX46_putElsewhere_98 GX46_putElsewhere_105
    try dsimp only
    rw [v3]
theorem P_putFlags (R : RelP p h bd a fu cf rg u t hv kp fd m c1 f1 d1 w1 hq s dd x dk q rq r g sg bl cr np kn o fs B Bk Vv K F T rt tb Mc Mt) (xv : Int32) : RelP p h bd a fu cf rg u t hv kp fd m c1 f1 d1 w1 hq s dd x dk q rq r g sg bl cr np kn o (sFlags xv fs) B Bk Vv K F T rt tb (GX59_putFlags fu xv Mc) (GX99_putFlags f1 (xv &&& Int32.ofInt 31) Mt) ∧ RamQ r Mc (GX59_putFlags fu xv Mc) ∧ WK lX99_putFlags Mt (GX99_putFlags f1 (xv &&& Int32.ofInt 31) Mt) := by
  have RR := relP_ram R
  obtain ⟨oc, ot, vc, vt, vi⟩ := id R.2.2.2.2.2.1
  obtain ⟨f1_, f2_⟩ := X99_putFlags ot vt (xv &&& Int32.ofInt 31)
  obtain ⟨f3_, f4_⟩ := X59_putFlags oc vc xv
  have e : sFlags (xv &&& Int32.ofInt 31) fs = sFlags xv fs := by
    unfold sFlags
    rw [and_and31]
  rw [e] at f2_
  have g1 := gX99_putFlags f1 (xv &&& Int32.ofInt 31) Mt RR.2.1.1 ot.2.1
  have g2 := gX59_putFlags fu xv Mc RR.1.1 oc.1.2.1
  have kt : WK lX99_putFlags Mt (GX99_putFlags f1 (xv &&& Int32.ofInt 31) Mt) := wX99_putFlags (SL lX99_putFlags) (fun _ => True) (fun _ h => h) f1 _ Mt (wi_N RR.2.1.2.1) trivial _ g1.1
  have kc : WK lX59_putFlags Mc (GX59_putFlags fu xv Mc) := wX59_putFlags (SL lX59_putFlags) (fun _ => True) (fun _ h => h) fu _ Mc (wi_N RR.1.2.1) trivial _ g2.1
  have vi' : VIs (sFlags xv fs) := ⟨by
    show ui (xv &&& Int32.ofInt 31) < 32
    rw [ui_and, show ui (Int32.ofInt 31) = 2 ^ 5 - 1 from rfl, Nat.and_two_pow_sub_one_eq_mod]
    exact Nat.mod_lt _ (by decide), vi.2⟩
  obtain ⟨R2, rq⟩ := relP_ff kc kt (by decide) (by decide) R f3_ f4_ f1_ f2_ vi'
  exact ⟨R2, rq, kt⟩
theorem P_putMode (R : RelP p h bd a fu cf rg u t hv kp fd m c1 f1 d1 w1 hq s dd x dk q rq r g sg bl cr np kn o fs B Bk Vv K F T rt tb Mc Mt) (xv : Int32) : RelP p h bd a fu cf rg u t hv kp fd m c1 f1 d1 w1 hq s dd x dk q rq r g sg bl cr np kn o (sMode xv fs) B Bk Vv K F T rt tb (GX59_putMode fu xv Mc) (GX99_putMode f1 (xv &&& Int32.ofInt 7) Mt) ∧ RamQ r Mc (GX59_putMode fu xv Mc) ∧ WK lX99_putMode Mt (GX99_putMode f1 (xv &&& Int32.ofInt 7) Mt) := by
  have RR := relP_ram R
  obtain ⟨oc, ot, vc, vt, vi⟩ := id R.2.2.2.2.2.1
  obtain ⟨f1_, f2_⟩ := X99_putMode ot vt (xv &&& Int32.ofInt 7)
  obtain ⟨f3_, f4_⟩ := X59_putMode oc vc xv
  have e : sMode (xv &&& Int32.ofInt 7) fs = sMode xv fs := by
    unfold sMode
    rw [and7_8]
  rw [e] at f2_
  have g1 := gX99_putMode f1 (xv &&& Int32.ofInt 7) Mt RR.2.1.1 ot.2.1
  have g2 := gX59_putMode fu xv Mc RR.1.1 oc.1.2.1
  have kt : WK lX99_putMode Mt (GX99_putMode f1 (xv &&& Int32.ofInt 7) Mt) := wX99_putMode (SL lX99_putMode) (fun _ => True) (fun _ h => h) f1 _ Mt (wi_N RR.2.1.2.1) trivial _ g1.1
  have kc : WK lX59_putMode Mc (GX59_putMode fu xv Mc) := wX59_putMode (SL lX59_putMode) (fun _ => True) (fun _ h => h) fu _ Mc (wi_N RR.1.2.1) trivial _ g2.1
  have vi' : VIs (sMode xv fs) := ⟨vi.1, Nat.mod_lt _ (by decide)⟩
  obtain ⟨R2, rq⟩ := relP_ff kc kt (by decide) (by decide) R f3_ f4_ f1_ f2_ vi'
  exact ⟨R2, rq, kt⟩
end El
