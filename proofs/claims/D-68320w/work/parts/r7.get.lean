/-! data that was found: read -/
set_option maxRecDepth 100000
/-- all but memory, the board and what hangs on it -/
def uCb : List Nat := uPr ++ (uH ++ (uA ++ (218 :: (uI ++ (lC ++ (uFl ++ (uW ++ uKp)))))))
def uTb : List Nat := uQ ++ (lIt ++ (307 :: 1307 :: (lCt ++ (lFt ++ lWt))))
section Gt
variable {p h bd a fu rg u t hv kp fd m c1 f1 d1 w1 hq s dd x dk q rq r g sg bl cr np : Nat} {cf : Nat → Nat} {kn : Int32} {o : Option Wt} {fs : Fs} {B B' Bk Vv e : Nat} {K : Rg} {F T : Nat → Nat} {rt : Int32} {tb : Int64} {S S' : List Nat} {Mc Mt Nc Nt : FM} {ad : Int64} {ac md : Int32} {z : Nat}
theorem relP_b (kc : WK S Mc Nc) (kt : WK S' Mt Nt) (hc : dj uCb S = true) (ht' : dj uTb S' = true) (RB' : RelB bd s dd x dk q rq r m sg bl cr np B' Nc Nt) (E : Evo r e Mc Nc) (R : RelP p h bd a fu cf rg u t hv kp fd m c1 f1 d1 w1 hq s dd x dk q rq r g sg bl cr np kn o fs B Bk Vv K F T rt tb Mc Mt) : RelP p h bd a fu cf rg u t hv kp fd m c1 f1 d1 w1 hq s dd x dk q rq r g sg bl cr np kn o fs B' (Bk + e) Vv K F T rt tb Nc Nt := by
  have RR := relP_ram R
  obtain ⟨PC, PT, OW, RI, RC, RF, RT, KP, RB⟩ := R
  have T0 := RR.1.1
  have W := RR.1.2.1
  have T' := RR.2.1.1
  have W' := RR.2.1.2.1
  have R' : RelRam r cr Nc Nt := RB'.2.1.2.1
  have TN := R'.1.1
  have TN' := R'.2.1.1
  exact ⟨prC_k kc (dj_sub hc (by decide)) (dj_sub hc (by decide)) (dj_sub hc (by decide)) RR.1 PC, prT_k kt (dj_sub ht' (by decide)) (dj_sub ht' (by decide)) RI.2.1 T' W' PT,
    owW_k kc kt (dj_sub hc (by decide)) (dj_sub ht' (by decide)) W T' W' PC.1.1 PT.1.1 OW, wrI kc kt (dj_sub hc (by decide)) (dj_sub ht' (by decide)) T0 W T' W' RI, wrCt kc kt (dj_sub hc (by decide)) (dj_sub ht' (by decide)) W W' TN TN' RC,
    wrF kc kt (dj_sub hc (by decide)) (dj_sub ht' (by decide)) W W' TN TN' RF, wrTo (e := e) kc kt (dj_sub hc (by decide)) (dj_sub ht' (by decide)) T' W' R'.1 (R'.2.2.1.trans RR.2.2.1.symm) E RT, kcP_k (e := e) kc (dj_sub hc (by decide)) E RR.1 R'.1 KP, RB'⟩
/-- memory is written -/
theorem relP_m (kc : WK S Mc Nc) (kt : WK S' Mt Nt) (hc : dj uCb S = true) (ht' : dj uTb S' = true) (hb : dj (uB ++ ([22, 23] ++ (lG ++ uD))) S = true) (hb' : dj (uBt ++ ([315] ++ (lGt ++ lDt))) S' = true) (R' : RelRam r cr Nc Nt) (E : Evo r e Mc Nc)
    (R : RelP p h bd a fu cf rg u t hv kp fd m c1 f1 d1 w1 hq s dd x dk q rq r g sg bl cr np kn o fs B Bk Vv K F T rt tb Mc Mt) : RelP p h bd a fu cf rg u t hv kp fd m c1 f1 d1 w1 hq s dd x dk q rq r g sg bl cr np kn o fs B (Bk + e) Vv K F T rt tb Nc Nt :=
  relP_b kc kt hc ht' (wrB kc kt hb hb' R' R.2.2.2.2.2.2.2.2) E R
theorem rel_get (R : RelRam r cr Mc Mt) {a : Int64} (hr : inR a 1) : ∃ v : Int32, ui v < 256 ∧ HX11_load r a (Int32.ofInt 1) Mc ∧ GX11_load r a (Int32.ofInt 1) Mc = (v.toInt64, Mc) ∧ HX93_get cr a Mt ∧ GX93_get cr a Mt = (v, Mt) := by
  obtain ⟨oo, ho⟩ : ∃ o, ul a = 2147483648 + o := ⟨ul a - 2147483648, by unfold inR at hr; omega⟩
  have hb : oo + 1 ≤ 4194304 := by unfold inR at hr; omega
  obtain ⟨a1, w, a2, a3⟩ := X11_load R.1.1 R.1.2.2.1 ho (sz := Int32.ofInt 1) (s := 1) rfl (by decide) (by decide) hb
  obtain ⟨b1, v, b2, b3, b4⟩ := X93_get R.2.1.1 R.2.1.2.2.1 ho (by omega)
  refine ⟨v, b3, a1, ?_, b1, b2⟩
  have e : w = v.toInt64 := by
    apply ul_inj
    rw [ul_sext, if_pos (by omega)]
    apply Nat.eq_of_testBit_eq
    intro i
    have h1 := a3 i
    by_cases c : i < 8
    · rw [decide_eq_true (show i < 8 * 1 by omega), Bool.true_and, R.2.2.2.2.1 _ (by omega), ← b4 i c] at h1
      exact h1
    · rw [decide_eq_false (show ¬ i < 8 * 1 by omega), Bool.false_and] at h1
      have h2 : ib v i = false := Nat.testBit_lt_two_pow (Nat.lt_of_lt_of_le b3 (show 2 ^ 8 ≤ 2 ^ i from Nat.pow_le_pow_right (by decide) (by omega)))
      exact h1.trans h2.symm
  rw [a2, e]
theorem nI_d (n : Nat) : nI (n + 1) + Int32.ofInt (-1) = nI n := by
  show Int32.ofInt ((n + 1 : Nat) : Int) + Int32.ofInt (-1) = Int32.ofInt (n : Int)
  rw [← Int32.ofInt_add]
  exact congrArg Int32.ofInt (by omega)
/-- the bytes of different pages -/
theorem get_L (R : RelP p h bd a fu cf rg u t hv kp fd m c1 f1 d1 w1 hq s dd x dk q rq r g sg bl cr np kn o fs B Bk Vv K F T rt tb Mc Mt) (hz : z ≤ 8) (hp : ∀ i, i < z → Nt_e fd m Mc Mt i ∧ inR (Mc.2.1 3 (Mc.2.2 121 fd 0) i) 1) :
    ∀ n, n ≤ z → ∀ acc j j', n < j → n < j' → ∃ v, FX73_load_L61 fN j fd bd acc (nI n + Int32.ofInt (-1)) Mc = some (v, Mc) ∧ FX92_get_L57 fN j' m acc (nI n + Int32.ofInt (-1)) Mt = some (v, Mt) := by
  have RR := relP_ram R
  have nfd := R.1.2.2.2
  have n92 : fm_is Mt 92 92 m = true := R.2.1.1.1
  have SB := R.2.2.2.2.2.2.2.2.1.1
  have nbd := SB.1.1
  have b18 : Mc.2.2 18 bd 0 = r := SB.2.2.1
  have m298 : Mt.2.2 298 m 0 = cr := R.2.2.2.2.2.2.2.2.1.2.2.1
  intro n
  induction n with
  | zero =>
    intro _ acc j j' hj hj'
    obtain ⟨j, rfl⟩ : ∃ y, j = y + 1 := ⟨j - 1, by omega⟩
    obtain ⟨j', rfl⟩ : ∃ y, j' = y + 1 := ⟨j' - 1, by omega⟩
    have ng : nI 0 + Int32.ofInt (-1) < 0 := by decide
    refine ⟨acc, ?_, ?_⟩
    · show FX73_load_61 fN (FX73_load_L61 fN j) fd bd acc (nI 0 + Int32.ofInt (-1)) Mc = _
      rw [(gX73_load_61 (FX73_load_L61 fN j) fd bd acc (nI 0 + Int32.ofInt (-1)) Mc RR.1.1 nbd nfd ⟨fun _ => trivial, fun w => absurd ng w⟩).1]
      unfold GX73_load_61
      try dsimp only
      rw [fi_pos ng]
      rfl
    · show FX92_get_57 fN (FX92_get_L57 fN j') m acc (nI 0 + Int32.ofInt (-1)) Mt = _
      rw [(gX92_get_57 (FX92_get_L57 fN j') m acc (nI 0 + Int32.ofInt (-1)) Mt RR.2.1.1 n92 ⟨fun _ => trivial, fun w => absurd ng w⟩).1]
      unfold GX92_get_57
      try dsimp only
      rw [fi_pos ng]
      rfl
  | succ n ih =>
    intro hn acc j j' hj hj'
    obtain ⟨j, rfl⟩ : ∃ y, j = y + 1 := ⟨j - 1, by omega⟩
    obtain ⟨j', rfl⟩ : ∃ y, j' = y + 1 := ⟨j' - 1, by omega⟩
    rw [nI_d]
    have ng : ¬ nI n < 0 := fun w => by
      rw [show (0 : Int32) = nI 0 from rfl, n_lt (by omega) (by omega)] at w
      omega
    have hcn : (nI n).toNatClampNeg = n := o_cl (by omega)
    obtain ⟨he, hi⟩ := hp n (by omega)
    obtain ⟨v, v1, v2, v3, v4, v5⟩ := rel_get RR hi
    obtain ⟨w, w1_, w2_⟩ := ih (by omega) (Int64.ofInt 256 * acc + v.toInt64) j j' (by omega) (by omega)
    have in1 : fm_in Mc (Mc.2.2 121 fd 0) (nI n) = true := in_nI (tL_121 RR.1.1.1 nfd) (by omega) (by decide)
    have in2 : fm_in Mt (Mt.2.2 323 m 0) (nI n) = true := in_nI (tL_323 RR.2.1.1.1 n92) (by omega) (by decide)
    unfold Nt_e at he
    refine ⟨w, ?_, ?_⟩
    · show FX73_load_61 fN (FX73_load_L61 fN j) fd bd acc (nI n) Mc = _
      rw [(gX73_load_61 (FX73_load_L61 fN j) fd bd acc (nI n) Mc RR.1.1 nbd nfd ⟨fun _ => trivial, fun _ => ⟨in1, by
        try dsimp only
        rw [b18, hcn]
        exact ⟨v2, trivial⟩⟩⟩).1]
      unfold GX73_load_61
      try dsimp only
      rw [fi_neg ng]
      try dsimp only
      rw [b18, hcn, v3]
      try dsimp only
      rw [sh_8 acc v1]
      exact w1_
    · show FX92_get_57 fN (FX92_get_L57 fN j') m acc (nI n) Mt = _
      rw [(gX92_get_57 (FX92_get_L57 fN j') m acc (nI n) Mt RR.2.1.1 n92 ⟨fun _ => trivial, fun _ => ⟨in2, by
        try dsimp only
        rw [m298, hcn, he]
        exact ⟨v4, trivial⟩⟩⟩).1]
      unfold GX92_get_57
      try dsimp only
      rw [fi_neg ng]
      try dsimp only
      rw [m298, hcn, he, v5]
      exact w2_
theorem z4_z (hz : z = 1 ∨ z = 2 ∨ z = 4 ∨ z = 8) : z4 (nI z) := by
  unfold z4
  rcases hz with rfl | rfl | rfl | rfl
  · exact Or.inl rfl
  · exact Or.inr (Or.inl rfl)
  · exact Or.inr (Or.inr (Or.inl rfl))
  · exact Or.inr (Or.inr (Or.inr rfl))
theorem P_get (R : RelP p h bd a fu cf rg u t hv kp fd m c1 f1 d1 w1 hq s dd x dk q rq r g sg bl cr np kn o fs B Bk Vv K F T rt tb Mc Mt) (To : Told d1 rt tb Mt) (hz : z = 1 ∨ z = 2 ∨ z = 4 ∨ z = 8) (Fd : FdR fd m F T K ac md z ad Mc Mt) :
    ∃ v X Y, (HX73_load fd bd Mc ∧ GX73_load fd bd Mc = (v, X)) ∧ (HX92_get m (nI z) Mt ∧ GX92_get m (nI z) Mt = (v, Y)) ∧ RelP p h bd a fu cf rg u t hv kp fd m c1 f1 d1 w1 hq s dd x dk q rq r g sg bl cr np kn o fs B Bk Vv K F T rt tb X Y ∧ Told d1 rt tb Y ∧ Evo r 0 Mc X ∧ WK lX73_load Mc X ∧ WK lX92_get Mt Y ∧ Y.2.1 414 sg 0 = Mt.2.1 414 sg 0 := by
  have RR := relP_ram R
  have T0 := RR.1.1
  have W := RR.1.2.1
  have T' := RR.2.1.1
  have W' := RR.2.1.2.1
  have nfd := R.1.2.2.2
  have n92 : fm_is Mt 92 92 m = true := R.2.1.1.1
  have SB := R.2.2.2.2.2.2.2.2.1.1
  have nbd := SB.1.1
  have b18 : Mc.2.2 18 bd 0 = r := SB.2.2.1
  have m298 : Mt.2.2 298 m 0 = cr := R.2.2.2.2.2.2.2.2.1.2.2.1
  have hz8 : z ≤ 8 := by omega
  obtain ⟨f1_, f2_, f3_, f4_, f5_⟩ := Fd
  have h0c : (Int32.ofInt 0).toNatClampNeg = 0 := rfl
  have ez : (nI z).toInt64 = lN z := o_64 (by omega)
  have ulz : ul (lN z) = z := by rw [ul_lN]; omega
  have Fin : ∀ v X Y, FX73_load fN fd bd Mc = some (v, X) → FX92_get fN m (nI z) Mt = some (v, Y) → RelP p h bd a fu cf rg u t hv kp fd m c1 f1 d1 w1 hq s dd x dk q rq r g sg bl cr np kn o fs B Bk Vv K F T rt tb X Y → Evo r 0 Mc X → Y.2.1 414 sg 0 = Mt.2.1 414 sg 0 →
      ∃ v X Y, (HX73_load fd bd Mc ∧ GX73_load fd bd Mc = (v, X)) ∧ (HX92_get m (nI z) Mt ∧ GX92_get m (nI z) Mt = (v, Y)) ∧ RelP p h bd a fu cf rg u t hv kp fd m c1 f1 d1 w1 hq s dd x dk q rq r g sg bl cr np kn o fs B Bk Vv K F T rt tb X Y ∧ Told d1 rt tb Y ∧ Evo r 0 Mc X ∧ WK lX73_load Mc X ∧ WK lX92_get Mt Y ∧ Y.2.1 414 sg 0 = Mt.2.1 414 sg 0 := by
    intro v X Y a1 a2 R2 E e414
    have RR2 := relP_ram R2
    have kc : WK lX73_load Mc X := wX73_load (SL lX73_load) (fun _ => True) (fun _ h => h) fN fd bd Mc (wi_N W) trivial trivial _ a1
    have kt : WK lX92_get Mt Y := wX92_get (SL lX92_get) (fun _ => True) (fun _ h => h) fN m (nI z) Mt (wi_N W') trivial _ a2
    exact ⟨v, X, Y, op_of (d := ((0 : Int64), Mc)) a1 (P := OkR Mc) ⟨RR2.1.1, wk_ext W kc⟩, op_of (d := ((0 : Int64), Mt)) a2 (P := OkR Mt) ⟨RR2.2.1.1, wk_ext W' kt⟩, R2, told_k kt (by decide) T' W' R.2.2.2.2.1.2.1.2.1 To, E, kc, kt, e414⟩
  by_cases c : ul ad % 4096 + z ≤ 4096
  · obtain ⟨g1, g2, g3⟩ := f4_ c
    unfold Nt_e at g1
    have n123 : ¬ Mc.1 123 fd 0 = 0 := by rw [f2_, bz_t c]; decide
    have n322 : ¬ Mt.1 322 m 0 = 0 := by rw [f3_, bz_t c]; decide
    have hare : GX93_areBytes (Mc.2.1 3 (Mc.2.2 121 fd 0) 0) (lN z) Mt = (bz (inR (Mc.2.1 3 (Mc.2.2 121 fd 0) 0) z), Mt) := by
      rw [X93_areBytes (by rw [ulz]; omega), ulz]
      have : (inR (Mc.2.1 3 (Mc.2.2 121 fd 0) 0) 1 ∧ inR (Mc.2.1 3 (Mc.2.2 121 fd 0) 0) z) = inR (Mc.2.1 3 (Mc.2.2 121 fd 0) 0) z := propext ⟨fun q => q.2, fun q => ⟨by unfold inR at *; omega, q⟩⟩
      rw [this]
    rcases g3 with ⟨i1, i2⟩ | ⟨i1, i2, i3⟩
    · obtain ⟨v, v1, v2, v3, v4⟩ := rel_load RR (a := Mc.2.1 3 (Mc.2.2 121 fd 0) 0) (s := z) (sz := nI z) (by rw [ui_nI]; omega) (by omega) hz8 i1
      refine Fin v Mc Mt ?_ ?_ R (evo_r r 0 Mc) rfl
      · show FX73_load_0 fN (FX73_load_L61 fN fN) fd bd Mc = _
        rw [(gX73_load_0 (FX73_load_L61 fN fN) fd bd Mc T0 nfd nbd ⟨fun _ => ⟨fun _ => trivial, fun _ => by
          try dsimp only
          rw [b18, h0c, f1_]
          exact ⟨v1, trivial⟩⟩, fun w => absurd i2 w⟩).1]
        unfold GX73_load_0
        try dsimp only
        rw [fi_pos i2, fi_neg n123]
        try dsimp only
        rw [b18, h0c, f1_, v2]
        rfl
      · show FX92_get_0 fN (FX92_get_L57 fN fN) m (nI z) Mt = _
        rw [(gX92_get_0 (FX92_get_L57 fN fN) m (nI z) Mt T' n92 ⟨fun _ => trivial, fun _ => by
          try dsimp only
          rw [h0c, g1, ez, hare]
          try dsimp only
          rw [g1, m298]
          exact ⟨fun w => absurd w (by rw [bz_t i1]; decide), fun _ => ⟨v3, trivial⟩⟩⟩).1]
        unfold GX92_get_0 GX92_get_49
        try dsimp only
        rw [fi_neg n322]
        try dsimp only
        rw [h0c, g1, ez, hare]
        try dsimp only
        rw [bz_t i1, fi_neg (show ¬ Int32.ofInt 1 = 0 by decide), g1, m298, v4]
        rfl
    · have hp57 : ul (Mc.2.1 3 (Mc.2.2 121 fd 0) 0) < 4611686018427387904 := by
        have := g2.2.1
        have p57 : (2 : Nat) ^ 57 = 144115188075855872 := by decide
        omega
      obtain ⟨v, X, Y, ⟨a1, a2⟩, ⟨b1, b2⟩, RB', RR', E⟩ := rel_bread R.2.2.2.2.2.2.2.2 hp57 (z4_z hz) hz8 i2
      have n124 : ¬ Mc.2.2 124 fd 0 = 0 := by
        rw [i3]
        unfold wcd
        rw [if_neg i2]
        omega
      have n6 : fm_is Mc 6 6 (wcd (wnX (Mc.2.1 3 (Mc.2.2 121 fd 0) 0) z)) = true := by
        rw [← i3]
        exact tZ_124 T0.1 nfd n124
      have gr := gX10_read bd (wcd (wnX (Mc.2.1 3 (Mc.2.2 121 fd 0) 0) z)) (Mc.2.1 3 (Mc.2.2 121 fd 0) 0) (nI z) Mc T0 n6 nbd a1
      have gw := gX92_readWindow m (Mc.2.1 3 (Mc.2.2 121 fd 0) 0) (nI z) Mt T' n92 b1
      have kc : WK lX10_read Mc X := by
        have := wX10_read (SL lX10_read) (fun _ => True) (fun _ h => h) fN _ _ _ _ Mc (wi_N W) trivial trivial _ gr.1
        rw [a2] at this
        exact this
      have kt : WK lX92_readWindow Mt Y := by
        have := wX92_readWindow (SL lX92_readWindow) (fun _ => True) (fun _ h => h) fN _ _ _ Mt (wi_N W') trivial _ gw.1
        rw [b2] at this
        exact this
      have R2 := relP_b (e := 0) kc kt (by decide) (by decide) RB' E R
      have e414 := bread414 R.2.2.2.2.2.2.2.2 hp57 (z4_z hz) hz8 i2
      rw [b2] at e414
      refine Fin v X Y ?_ ?_ R2 E e414
      · show FX73_load_0 fN (FX73_load_L61 fN fN) fd bd Mc = _
        rw [(gX73_load_0 (FX73_load_L61 fN fN) fd bd Mc T0 nfd nbd ⟨fun w => absurd w n124, fun _ => by
          try dsimp only
          rw [h0c, f1_, i3]
          exact ⟨a1, trivial⟩⟩).1]
        unfold GX73_load_0
        try dsimp only
        rw [fi_neg n124]
        try dsimp only
        rw [h0c, f1_, i3, a2]
        rfl
      · show FX92_get_0 fN (FX92_get_L57 fN fN) m (nI z) Mt = _
        rw [(gX92_get_0 (FX92_get_L57 fN fN) m (nI z) Mt T' n92 ⟨fun _ => trivial, fun _ => by
          try dsimp only
          rw [h0c, g1, ez, hare]
          try dsimp only
          rw [g1, m298]
          exact ⟨fun _ => ⟨b1, trivial⟩, fun w => absurd (bz_f i1) w⟩⟩).1]
        unfold GX92_get_0 GX92_get_49
        try dsimp only
        rw [fi_neg n322]
        try dsimp only
        rw [h0c, g1, ez, hare]
        try dsimp only
        rw [bz_f i1, fi_pos (show Int32.ofInt 0 = 0 from rfl), g1, b2]
        rfl
  · obtain ⟨i2, i3⟩ := f5_ c
    have z123 : Mc.1 123 fd 0 = 0 := by rw [f2_, bz_f c]; rfl
    have z322 : Mt.1 322 m 0 = 0 := by rw [f3_, bz_f c]; rfl
    have esub : nI z - Int32.ofInt 1 = nI z + Int32.ofInt (-1) := by
      show Int32.ofInt (z : Int) - Int32.ofInt 1 = Int32.ofInt (z : Int) + Int32.ofInt (-1)
      rw [← Int32.ofInt_sub, ← Int32.ofInt_add]
      exact congrArg Int32.ofInt (by omega)
    obtain ⟨v, w1_, w2_⟩ := get_L R hz8 (fun i hi => ⟨(i3 i hi).1, (i3 i hi).2.2⟩) z (Nat.le_refl _) (Int64.ofInt 0) fN fN (by unfold fN; omega) (by unfold fN; omega)
    refine Fin v Mc Mt ?_ ?_ R (evo_r r 0 Mc) rfl
    · show FX73_load_0 fN (FX73_load_L61 fN fN) fd bd Mc = _
      rw [(gX73_load_0 (FX73_load_L61 fN fN) fd bd Mc T0 nfd nbd ⟨fun _ => ⟨fun _ => trivial, fun w => absurd z123 w⟩, fun w => absurd i2 w⟩).1]
      unfold GX73_load_0
      try dsimp only
      rw [fi_pos i2, fi_pos z123]
      try dsimp only
      rw [f1_, esub]
      exact w1_
    · show FX92_get_0 fN (FX92_get_L57 fN fN) m (nI z) Mt = _
      rw [(gX92_get_0 (FX92_get_L57 fN fN) m (nI z) Mt T' n92 ⟨fun _ => trivial, fun w => absurd z322 w⟩).1]
      unfold GX92_get_0
      try dsimp only
      rw [fi_pos z322]
      try dsimp only
      rw [esub]
      exact w2_
end Gt
