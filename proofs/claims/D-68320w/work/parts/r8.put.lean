/-! data that was found: written -/
set_option maxRecDepth 100000
section Pu
variable {p h bd a fu rg u t hv kp fd m c1 f1 d1 w1 hq s dd x dk q rq r g sg bl cr np : Nat} {cf : Nat → Nat} {kn : Int32} {o : Option Wt} {fs : Fs} {B Bk Vv e : Nat} {K : Rg} {F T : Nat → Nat} {rt : Int32} {tb : Int64} {Mc Mt : FM} {ad v : Int64} {ac md : Int32} {z : Nat}
theorem row_k {S : List Nat} {M N : FM} {i : Nat} (k : WK S M N) (T0 : Ty M) (W0 : Wf M) (n : fm_is M 41 41 fd = true) (hd : dj [121, 1121] S = true) : N.2.1 3 (N.2.2 121 fd 0) i = M.2.1 3 (M.2.2 121 fd 0) i := by
  have n1 := tN_121 T0.1 n
  rw [(kf (f := 121) k rfl (dj_n hd 121 rfl) (wf_lt W0 (fm_ist rfl n))).2.2, (ka k (sS_121 W0 n) (wf_n0 W0 (fm_ist rfl n1)) (dj_n hd 1121 rfl) (wf_lt W0 (fm_ist rfl n1))).2.1]
theorem row_t {S : List Nat} {M N : FM} {i : Nat} (k : WK S M N) (T0 : Ty M) (W0 : Wf M) (n : fm_is M 92 92 m = true) (hd : dj [323, 1323] S = true) : N.2.1 3 (N.2.2 323 m 0) i = M.2.1 3 (M.2.2 323 m 0) i := by
  have n1 := tN_323 T0.1 n
  rw [(kf (f := 323) k rfl (dj_n hd 323 rfl) (wf_lt W0 (fm_ist rfl n))).2.2, (ka k (sS_323 W0 n) (wf_n0 W0 (fm_ist rfl n1)) (dj_n hd 1323 rfl) (wf_lt W0 (fm_ist rfl n1))).2.1]
/-- the bytes of different pages -/
theorem put_L (hz : z ≤ 8) : ∀ n k Bk (Mc Mt : FM), k + n = z → RelP p h bd a fu cf rg u t hv kp fd m c1 f1 d1 w1 hq s dd x dk q rq r g sg bl cr np kn o fs B Bk Vv K F T rt tb Mc Mt → Mc.1 122 fd 0 = nI z → (∀ i, i < z → Nt_e fd m Mc Mt i ∧ inR (Mc.2.1 3 (Mc.2.2 121 fd 0) i) 1) → ∀ j j', n < j → n < j' →
    ∃ X Y, FX73_store_L60 fN j fd bd v (nI k) Mc = some X ∧ FX92_put_L10 fN j' m (nI z) v (nI k) Mt = some Y ∧ RelP p h bd a fu cf rg u t hv kp fd m c1 f1 d1 w1 hq s dd x dk q rq r g sg bl cr np kn o fs B (Bk + n) Vv K F T rt tb X Y ∧ Evo r n Mc X := by
  intro n
  induction n with
  | zero =>
    intro k Bk Mc Mt hk R h122 hp j j' hj hj'
    obtain ⟨j, rfl⟩ : ∃ y, j = y + 1 := ⟨j - 1, by omega⟩
    obtain ⟨j', rfl⟩ : ∃ y, j' = y + 1 := ⟨j' - 1, by omega⟩
    have RR := relP_ram R
    have nfd := R.1.2.2.2
    have n92 : fm_is Mt 92 92 m = true := R.2.1.1.1
    have nbd := R.2.2.2.2.2.2.2.2.1.1.1.1
    have hle : nI z ≤ nI k := (n_le (by omega) (by omega)).mpr (by omega)
    have hle' : Mc.1 122 fd 0 ≤ nI k := by rw [h122]; exact hle
    refine ⟨Mc, Mt, ?_, ?_, R, evo_r r 0 Mc⟩
    · show FX73_store_60 fN (FX73_store_L60 fN j) fd bd v (nI k) Mc = _
      rw [(gX73_store_60 (FX73_store_L60 fN j) fd bd v (nI k) Mc RR.1.1 nfd nbd ⟨fun _ => trivial, fun w => absurd hle' w⟩).1]
      unfold GX73_store_60 GX73_store_97
      try dsimp only
      rw [fi_pos hle']
      rfl
    · show FX92_put_10 fN (FX92_put_L10 fN j') m (nI z) v (nI k) Mt = _
      rw [(gX92_put_10 (FX92_put_L10 fN j') m (nI z) v (nI k) Mt RR.2.1.1 n92 ⟨fun _ => trivial, fun w => absurd hle w⟩).1]
      unfold GX92_put_10 GX92_put_91
      try dsimp only
      rw [fi_pos hle]
      rfl
  | succ n ih =>
    intro k Bk Mc Mt hk R h122 hp j j' hj hj'
    obtain ⟨j, rfl⟩ : ∃ y, j = y + 1 := ⟨j - 1, by omega⟩
    obtain ⟨j', rfl⟩ : ∃ y, j' = y + 1 := ⟨j' - 1, by omega⟩
    have RR := relP_ram R
    have nfd := R.1.2.2.2
    have n92 : fm_is Mt 92 92 m = true := R.2.1.1.1
    have SB := R.2.2.2.2.2.2.2.2.1.1
    have nbd := SB.1.1
    have b18 : Mc.2.2 18 bd 0 = r := SB.2.2.1
    have m298 : Mt.2.2 298 m 0 = cr := R.2.2.2.2.2.2.2.2.1.2.2.1
    have hle : ¬ nI z ≤ nI k := fun q => by
      rw [n_le (by omega) (by omega)] at q
      omega
    have hle' : ¬ Mc.1 122 fd 0 ≤ nI k := by rw [h122]; exact hle
    have hcn : (nI k).toNatClampNeg = k := o_cl (by omega)
    have hk1 : nI k + Int32.ofInt 1 = nI (k + 1) := nI_a
    obtain ⟨he, hi⟩ := hp k (by omega)
    unfold Nt_e at he
    obtain ⟨sh, hsh⟩ : ∃ sh, (v.toUInt64 >>> (((Int32.ofInt 8) * nI k).toInt64.toUInt64 &&& Int64.toUInt64 63)).toInt64 = sh := ⟨_, rfl⟩
    obtain ⟨a1, a2, a3, a4⟩ := rel_put RR hi (v := sh) (u := sh.toInt32) (fun i hi => by rw [ib_low, decide_eq_true (show i < 32 by omega), Bool.true_and])
    obtain ⟨oo, ho⟩ : ∃ o, ul (Mc.2.1 3 (Mc.2.2 121 fd 0) k) = 2147483648 + o := ⟨ul (Mc.2.1 3 (Mc.2.2 121 fd 0) k) - 2147483648, by unfold inR at hi; omega⟩
    have E1 : Evo r 1 Mc (GX11_store r (Mc.2.1 3 (Mc.2.2 121 fd 0) k) (Int32.ofInt 1) sh Mc) := evo_st (Nat.le_refl _) (by omega) (by unfold inR at hi; omega) a4
    have gs1 := gX11_store r (Mc.2.1 3 (Mc.2.2 121 fd 0) k) (Int32.ofInt 1) sh Mc RR.1.1 RR.1.2.2.1 a1
    have gs2 := gX93_put cr (Mc.2.1 3 (Mc.2.2 121 fd 0) k) sh.toInt32 Mt a2
    have kc : WK lX11_store Mc (GX11_store r (Mc.2.1 3 (Mc.2.2 121 fd 0) k) (Int32.ofInt 1) sh Mc) := wX11_store (SL lX11_store) (fun _ => True) (fun _ h => h) fN _ _ _ _ Mc (wi_N RR.1.2.1) trivial _ gs1.1
    have kt : WK lX93_put Mt (GX93_put cr (Mc.2.1 3 (Mc.2.2 121 fd 0) k) sh.toInt32 Mt) := wX93_put (SL lX93_put) (fun _ => True) (fun _ h => h) fN _ _ _ Mt (wi_N RR.2.1.2.1) trivial _ gs2.1
    have R2 := relP_m (e := 1) kc kt (by decide) (by decide) (by decide) (by decide) a3 E1 R
    have in1 : fm_in Mc (Mc.2.2 121 fd 0) (nI k) = true := in_nI (tL_121 RR.1.1.1 nfd) (by omega) (by decide)
    have in2 : fm_in Mt (Mt.2.2 323 m 0) (nI k) = true := in_nI (tL_323 RR.2.1.1.1 n92) (by omega) (by decide)
    obtain ⟨X, Y, x1, x2, x3, x4⟩ := ih (k + 1) (Bk + 1) _ _ (by omega) R2 ((congrFun (kf (f := 122) kc rfl (dj_n (L := [122]) (by decide) 122 rfl) (wf_lt RR.1.2.1 (fm_ist rfl nfd))).1 0).trans h122) (fun i hi' => by
      unfold Nt_e
      rw [row_k kc RR.1.1 RR.1.2.1 nfd (by decide), row_t kt RR.2.1.1 RR.2.1.2.1 n92 (by decide)]
      exact hp i hi') j j' (by omega) (by omega)
    refine ⟨X, Y, ?_, ?_, by rw [show Bk + (n + 1) = Bk + 1 + n by omega]; exact x3, by rw [Nat.add_comm]; exact evo_t E1 x4⟩
    · show FX73_store_60 fN (FX73_store_L60 fN j) fd bd v (nI k) Mc = _
      rw [(gX73_store_60 (FX73_store_L60 fN j) fd bd v (nI k) Mc RR.1.1 nfd nbd ⟨fun _ => trivial, fun _ => ⟨in1, by
        try dsimp only
        rw [b18, hcn, hsh]
        exact ⟨a1, trivial⟩⟩⟩).1]
      unfold GX73_store_60
      try dsimp only
      rw [fi_neg hle']
      try dsimp only
      rw [b18, hcn, hsh, hk1]
      exact x1
    · show FX92_put_10 fN (FX92_put_L10 fN j') m (nI z) v (nI k) Mt = _
      rw [(gX92_put_10 (FX92_put_L10 fN j') m (nI z) v (nI k) Mt RR.2.1.1 n92 ⟨fun _ => trivial, fun _ => ⟨in2, by
        try dsimp only
        rw [m298, hcn, hsh, he]
        exact ⟨a2, trivial⟩⟩⟩).1]
      unfold GX92_put_10
      try dsimp only
      rw [fi_neg hle]
      try dsimp only
      rw [m298, hcn, hsh, he, hk1]
      exact x2
theorem P_put (R : RelP p h bd a fu cf rg u t hv kp fd m c1 f1 d1 w1 hq s dd x dk q rq r g sg bl cr np kn o fs B Bk Vv K F T rt tb Mc Mt) (To : Told d1 rt tb Mt) (hz : z = 1 ∨ z = 2 ∨ z = 4 ∨ z = 8) (Fd : FdR fd m F T K ac md z ad Mc Mt) (hB : B < 2147483000) (v : Int64) :
    ∃ X Y, (HX73_store fd bd v Mc ∧ GX73_store fd bd v Mc = X) ∧ (HX92_put m (nI z) v Mt ∧ GX92_put m (nI z) v Mt = Y) ∧ RelP p h bd a fu cf rg u t hv kp fd m c1 f1 d1 w1 hq s dd x dk q rq r g sg bl cr np kn o fs (B + 1) (Bk + 2560000) Vv K F T rt tb X Y ∧ Told d1 rt tb Y ∧ Evo r 2560000 Mc X ∧ WK lX73_store Mc X ∧ WK lX92_put Mt Y := by
  have RR := relP_ram R
  have T0 := RR.1.1
  have W := RR.1.2.1
  have T' := RR.2.1.1
  have W' := RR.2.1.2.1
  have nfd := R.1.2.2.2
  have n92 : fm_is Mt 92 92 m = true := R.2.1.1.1
  have SB := R.2.2.2.2.2.2.2.2.1.1
  have nbd := SB.1.1
  have b18 : Mc.2.2 18 bd 0 = r := SB.2.2.1
  have m298 : Mt.2.2 298 m 0 = cr := R.2.2.2.2.2.2.2.2.1.2.2.1
  have hz8 : z ≤ 8 := by omega
  obtain ⟨f1_, f2_, f3_, f4_, f5_⟩ := Fd
  have h0c : (Int32.ofInt 0).toNatClampNeg = 0 := rfl
  have ez : (nI z).toInt64 = lN z := o_64 (by omega)
  have ulz : ul (lN z) = z := by rw [ul_lN]; omega
  have Fin : ∀ X Y, FX73_store fN fd bd v Mc = some X → FX92_put fN m (nI z) v Mt = some Y → RelP p h bd a fu cf rg u t hv kp fd m c1 f1 d1 w1 hq s dd x dk q rq r g sg bl cr np kn o fs (B + 1) (Bk + 2560000) Vv K F T rt tb X Y → Evo r 2560000 Mc X →
      ∃ X Y, (HX73_store fd bd v Mc ∧ GX73_store fd bd v Mc = X) ∧ (HX92_put m (nI z) v Mt ∧ GX92_put m (nI z) v Mt = Y) ∧ RelP p h bd a fu cf rg u t hv kp fd m c1 f1 d1 w1 hq s dd x dk q rq r g sg bl cr np kn o fs (B + 1) (Bk + 2560000) Vv K F T rt tb X Y ∧ Told d1 rt tb Y ∧ Evo r 2560000 Mc X ∧ WK lX73_store Mc X ∧ WK lX92_put Mt Y := by
    intro X Y a1 a2 R2 E
    have RR2 := relP_ram R2
    have kc : WK lX73_store Mc X := wX73_store (SL lX73_store) (fun _ => True) (fun _ h => h) fN fd bd v Mc (wi_N W) trivial trivial _ a1
    have kt : WK lX92_put Mt Y := wX92_put (SL lX92_put) (fun _ => True) (fun _ h => h) fN m (nI z) v Mt (wi_N W') trivial _ a2
    exact ⟨X, Y, op_of (d := Mc) a1 (P := OkV Mc) ⟨RR2.1.1, wk_ext W kc⟩, op_of (d := Mt) a2 (P := OkV Mt) ⟨RR2.2.1.1, wk_ext W' kt⟩, R2, told_k kt (by decide) T' W' R.2.2.2.2.1.2.1.2.1 To, E, kc, kt⟩
  by_cases c : ul ad % 4096 + z ≤ 4096
  · obtain ⟨g1, g2, g3⟩ := f4_ c
    unfold Nt_e at g1
    have n123 : ¬ Mc.1 123 fd 0 = 0 := by rw [f2_, bz_t c]; decide
    have n322 : ¬ Mt.1 322 m 0 = 0 := by rw [f3_, bz_t c]; decide
    have hare : GX93_areBytes (Mc.2.1 3 (Mc.2.2 121 fd 0) 0) (lN z) Mt = (bz (inR (Mc.2.1 3 (Mc.2.2 121 fd 0) 0) z), Mt) := by
      rw [X93_areBytes (by rw [ulz]; omega), ulz]
      have : (inR (Mc.2.1 3 (Mc.2.2 121 fd 0) 0) 1 ∧ inR (Mc.2.1 3 (Mc.2.2 121 fd 0) 0) z) = inR (Mc.2.1 3 (Mc.2.2 121 fd 0) 0) z := propext ⟨fun q => q.2, fun q => ⟨by unfold inR at *; omega, q⟩⟩
      rw [this]
    rcases g3 with ⟨i1, i2⟩ | ⟨i1, i2, i3⟩
    · obtain ⟨a1, a2, a3, a4⟩ := rel_store RR (a := Mc.2.1 3 (Mc.2.2 121 fd 0) 0) (s := z) (sz := nI z) (by rw [ui_nI]; omega) (by omega) hz8 i1 v
      have E1 : Evo r 1 Mc (GX11_store r (Mc.2.1 3 (Mc.2.2 121 fd 0) 0) (nI z) v Mc) := evo_st (by omega) hz8 (by unfold inR at i1; omega) a4
      have gs1 := gX11_store r (Mc.2.1 3 (Mc.2.2 121 fd 0) 0) (nI z) v Mc RR.1.1 RR.1.2.2.1 a1
      have gs2 := gX93_keep cr (Mc.2.1 3 (Mc.2.2 121 fd 0) 0) (nI z) v Mt a2
      have kc : WK lX11_store Mc (GX11_store r (Mc.2.1 3 (Mc.2.2 121 fd 0) 0) (nI z) v Mc) := wX11_store (SL lX11_store) (fun _ => True) (fun _ h => h) fN _ _ _ _ Mc (wi_N RR.1.2.1) trivial _ gs1.1
      have kt : WK lX93_keep Mt (GX93_keep cr (Mc.2.1 3 (Mc.2.2 121 fd 0) 0) (nI z) v Mt) := wX93_keep (SL lX93_keep) (fun _ => True) (fun _ h => h) fN _ _ _ _ Mt (wi_N RR.2.1.2.1) trivial _ gs2.1
      have R2 := relP_m (e := 1) kc kt (by decide) (by decide) (by decide) (by decide) a3 E1 R
      refine Fin _ _ ?_ ?_ (relP_up (by omega) (by omega) R2) (evo_w E1 (by omega))
      · show FX73_store_0 fN (FX73_store_L60 fN fN) fd bd v Mc = _
        rw [(gX73_store_0 (FX73_store_L60 fN fN) fd bd v Mc T0 nfd nbd ⟨fun _ => ⟨fun _ => trivial, fun _ => by
          try dsimp only
          rw [b18, h0c, f1_]
          exact ⟨a1, trivial⟩⟩, fun w => absurd i2 w⟩).1]
        unfold GX73_store_0 GX73_store_97
        try dsimp only
        rw [fi_pos i2, fi_neg n123]
        try dsimp only
        rw [b18, h0c, f1_]
        rfl
      · show FX92_put_0 fN (FX92_put_L10 fN fN) m (nI z) v Mt = _
        rw [(gX92_put_0 (FX92_put_L10 fN fN) m (nI z) v Mt T' n92 ⟨fun _ => trivial, fun _ => by
          try dsimp only
          rw [h0c, g1, ez, hare]
          try dsimp only
          rw [g1, m298]
          exact ⟨fun w => absurd w (by rw [bz_t i1]; decide), fun _ => ⟨a2, trivial⟩⟩⟩).1]
        unfold GX92_put_0 GX92_put_91
        try dsimp only
        rw [fi_neg n322]
        try dsimp only
        rw [h0c, g1, ez, hare]
        try dsimp only
        rw [bz_t i1, fi_neg (show ¬ Int32.ofInt 1 = 0 by decide), g1, m298]
        rfl
    · have hp57 : ul (Mc.2.1 3 (Mc.2.2 121 fd 0) 0) < 4611686018427387904 := by
        have := g2.2.1
        have p57 : (2 : Nat) ^ 57 = 144115188075855872 := by decide
        omega
      obtain ⟨X, Y, ⟨a1, a2⟩, ⟨b1, b2⟩, RB', E⟩ := rel_bwrite R.2.2.2.2.2.2.2.2 hp57 (z4_z hz) hz8 i2 hB v
      have n124 : ¬ Mc.2.2 124 fd 0 = 0 := by
        rw [i3]
        unfold wcd
        rw [if_neg i2]
        omega
      have n6 : fm_is Mc 6 6 (wcd (wnX (Mc.2.1 3 (Mc.2.2 121 fd 0) 0) z)) = true := by
        rw [← i3]
        exact tZ_124 T0.1 nfd n124
      have gr := gX10_write bd (wcd (wnX (Mc.2.1 3 (Mc.2.2 121 fd 0) 0) z)) (Mc.2.1 3 (Mc.2.2 121 fd 0) 0) (nI z) v Mc T0 n6 nbd a1
      have gw := gX92_writeWindow m (Mc.2.1 3 (Mc.2.2 121 fd 0) 0) (nI z) v Mt T' n92 b1
      have kc : WK lX10_write Mc X := by
        have := wX10_write (SL lX10_write) (fun _ => True) (fun _ h => h) fN _ _ _ _ _ Mc (wi_N W) trivial trivial _ gr.1
        rw [a2] at this
        exact this
      have kt : WK lX92_writeWindow Mt Y := by
        have := wX92_writeWindow (SL lX92_writeWindow) (fun _ => True) (fun _ h => h) fN _ _ _ _ Mt (wi_N W') trivial _ gw.1
        rw [b2] at this
        exact this
      have R2 := relP_b (e := 2560000) kc kt (by decide) (by decide) RB' E R
      refine Fin X Y ?_ ?_ R2 E
      · show FX73_store_0 fN (FX73_store_L60 fN fN) fd bd v Mc = _
        rw [(gX73_store_0 (FX73_store_L60 fN fN) fd bd v Mc T0 nfd nbd ⟨fun w => absurd w n124, fun _ => by
          try dsimp only
          rw [h0c, f1_, i3]
          exact ⟨a1, trivial⟩⟩).1]
        unfold GX73_store_0 GX73_store_97
        try dsimp only
        rw [fi_neg n124]
        try dsimp only
        rw [h0c, f1_, i3, a2]
        rfl
      · show FX92_put_0 fN (FX92_put_L10 fN fN) m (nI z) v Mt = _
        rw [(gX92_put_0 (FX92_put_L10 fN fN) m (nI z) v Mt T' n92 ⟨fun _ => trivial, fun _ => by
          try dsimp only
          rw [h0c, g1, ez, hare]
          try dsimp only
          rw [g1, m298]
          exact ⟨fun _ => ⟨b1, trivial⟩, fun w => absurd (bz_f i1) w⟩⟩).1]
        unfold GX92_put_0 GX92_put_91
        try dsimp only
        rw [fi_neg n322]
        try dsimp only
        rw [h0c, g1, ez, hare]
        try dsimp only
        rw [bz_f i1, fi_pos (show Int32.ofInt 0 = 0 from rfl), g1, b2]
        rfl
  · obtain ⟨i2, i3⟩ := f5_ c
    have z123 : Mc.1 123 fd 0 = 0 := by rw [f2_, bz_f c]; rfl
    have z322 : Mt.1 322 m 0 = 0 := by rw [f3_, bz_f c]; rfl
    obtain ⟨X, Y, w1_, w2_, w3_, w4_⟩ := put_L (v := v) hz8 z 0 Bk Mc Mt (by omega) R f1_ (fun i hi => ⟨(i3 i hi).1, (i3 i hi).2.2⟩) fN fN (by unfold fN; omega) (by unfold fN; omega)
    refine Fin X Y ?_ ?_ (relP_up (by omega) (by omega) w3_) (evo_w w4_ (by omega))
    · show FX73_store_0 fN (FX73_store_L60 fN fN) fd bd v Mc = _
      rw [(gX73_store_0 (FX73_store_L60 fN fN) fd bd v Mc T0 nfd nbd ⟨fun _ => ⟨fun _ => trivial, fun w => absurd z123 w⟩, fun w => absurd i2 w⟩).1]
      unfold GX73_store_0
      try dsimp only
      rw [fi_pos i2, fi_pos z123]
      exact w1_
    · show FX92_put_0 fN (FX92_put_L10 fN fN) m (nI z) v Mt = _
      rw [(gX92_put_0 (FX92_put_L10 fN fN) m (nI z) v Mt T' n92 ⟨fun _ => trivial, fun w => absurd z322 w⟩).1]
      unfold GX92_put_0
      try dsimp only
      rw [fi_pos z322]
      exact w2_
end Pu
