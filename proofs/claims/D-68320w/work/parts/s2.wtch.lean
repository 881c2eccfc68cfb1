/-! a processor against the twin's: the twin's watch over what is stored -/
set_option maxRecDepth 100000
/-- what the twin's books say of it -/
def FdT (m : Nat) (F T : Nat → Nat) (K : Rg) (ac md : Int32) (s : Nat) (ad : Int64) (Mt : FM) : Prop := Mt.1 322 m 0 = bz (ul ad % 4096 + s ≤ 4096) ∧
  (ul ad % 4096 + s ≤ 4096 → PlG F T K ac md s ad (Mt.2.1 3 (Mt.2.2 323 m 0) 0)) ∧
  (¬ ul ad % 4096 + s ≤ 4096 → ∀ i, i < s → PlG F T K ac md 1 (ad + (nI i).toInt64) (Mt.2.1 3 (Mt.2.2 323 m 0) i))
section Ws
variable {p h bd a fu rg u t hv kp fd m c1 f1 d1 w1 hq s dd x dk q rq r g sg bl cr np : Nat} {cf : Nat → Nat} {kn : Int32} {o : Option Wt} {fs : Fs} {B Bk Vv : Nat} {K : Rg} {F T : Nat → Nat} {rt : Int32} {tb : Int64} {S S' : List Nat} {Mc Mt Nc Nt : FM} {ad : Int64} {ac md : Int32} {z : Nat}
theorem dMo_k (k : WK S' Mt Nt) (hd : dj [360, 361, 1361] S' = true) (T0 : Ty Mt) (W : Wf Mt) (n : fm_is Mt 95 95 d1 = true) : dMo d1 Nt = dMo d1 Mt := by
  have n1 := tN_361 T0.1 n
  have e : ∀ i, ht Nt d1 i = ht Mt d1 i := fun i => by
    unfold ht
    rw [(kf (f := 361) k rfl (dj_n hd 361 rfl) (wf_lt W (fm_ist rfl n))).2.2, (ka k (sS_361 W n) (wf_n0 W (fm_ist rfl n1)) (dj_n hd 1361 rfl) (wf_lt W (fm_ist rfl n1))).2.1]
  unfold dMo
  rw [e, (kf (f := 360) k rfl (dj_n hd 360 rfl) (wf_lt W (fm_ist rfl n))).1]
theorem fdR_t (k : WK S' Mt Nt) (hd : dj [322, 323, 1323] S' = true) (T0 : Ty Mt) (W : Wf Mt) (n : fm_is Mt 92 92 m = true) (Fd : FdR fd m F T K ac md z ad Mc Mt) : FdR fd m F T K ac md z ad Mc Nt := by
  have e : ∀ i, Nt.2.1 3 (Nt.2.2 323 m 0) i = Mt.2.1 3 (Mt.2.2 323 m 0) i := fun i => row_t k T0 W n (dj_sub hd (by decide))
  have e3 := congrFun (kf (f := 322) k rfl (dj_n hd 322 rfl) (wf_lt W (fm_ist rfl n))).1 0
  unfold FdR Nt_e at *
  rw [e3]
  simp only [e]
  exact Fd
theorem fdT_r (Fd : FdR fd m F T K ac md z ad Mc Mt) : FdT m F T K ac md z ad Mt := by
  obtain ⟨f1_, f2_, f3_, f4_, f5_⟩ := Fd
  refine ⟨f3_, fun c => ?_, fun c i hi => ?_⟩
  · obtain ⟨e, p0, _⟩ := f4_ c
    unfold Nt_e at e
    rw [e]
    exact p0
  · obtain ⟨e, p0, _⟩ := (f5_ c).2 i hi
    unfold Nt_e at e
    rw [e]
    exact p0
theorem fdT_k (k : WK S' Mt Nt) (hd : dj [322, 323, 1323] S' = true) (T0 : Ty Mt) (W : Wf Mt) (n : fm_is Mt 92 92 m = true) (Fd : FdT m F T K ac md z ad Mt) : FdT m F T K ac md z ad Nt := by
  have e : ∀ i, Nt.2.1 3 (Nt.2.2 323 m 0) i = Mt.2.1 3 (Mt.2.2 323 m 0) i := fun i => row_t k T0 W n (dj_sub hd (by decide))
  have e3 := congrFun (kf (f := 322) k rfl (dj_n hd 322 rfl) (wf_lt W (fm_ist rfl n))).1 0
  unfold FdT at *
  rw [e3]
  simp only [e]
  exact Fd
theorem ul_pk {pv : Int64} {k : Nat} (hp : ul pv < 2 ^ 57) (hz : ul pv % 4096 + z ≤ 4096) (hk : k < z) (h8 : z ≤ 8) : ul (pv + (nI k).toInt64) = ul pv + k ∧ ul pv + k < 2 ^ 57 := by
  have p57 : (2 : Nat) ^ 57 = 144115188075855872 := by decide
  rw [o_64 (by omega), ul_add, ul_lN]
  omega
theorem wtc_L (hz : z ≤ 8) : ∀ n k (Mt : FM), k + n = z → RelP p h bd a fu cf rg u t hv kp fd m c1 f1 d1 w1 hq s dd x dk q rq r g sg bl cr np kn o fs B Bk Vv K F T rt tb Mc Mt → dMo d1 Mt = md → FdT m F T K (Int32.ofInt 2) md z ad Mt → ∀ j, n < j →
    ∃ Y, FX92_watch_L2 fN j m (nI h) (nI z) (nI k) Mt = some Y ∧ Ty Y ∧ Y.2.1 316 m 0 = Mt.2.1 316 m 0 := by
  intro n
  induction n with
  | zero =>
    intro k Mt hk R hd Fd j hj
    obtain ⟨j, rfl⟩ : ∃ y, j = y + 1 := ⟨j - 1, by omega⟩
    have RR := relP_ram R
    have n92 : fm_is Mt 92 92 m = true := R.2.1.1.1
    have hle : nI z ≤ nI k := (n_le (by omega) (by omega)).mpr (by omega)
    refine ⟨Mt, ?_, RR.2.1.1, rfl⟩
    show FX92_watch_2 fN (FX92_watch_L2 fN j) m (nI h) (nI z) (nI k) Mt = _
    rw [(gX92_watch_2 (FX92_watch_L2 fN j) m (nI h) (nI z) (nI k) Mt RR.2.1.1 n92 ⟨fun _ => trivial, fun w => absurd hle w⟩).1]
    unfold GX92_watch_2 GX92_watch_92
    try dsimp only
    rw [fi_pos hle]
    rfl
  | succ n ih =>
    intro k Mt hk R hd Fd j hj
    obtain ⟨j, rfl⟩ : ∃ y, j = y + 1 := ⟨j - 1, by omega⟩
    have RR := relP_ram R
    have Tm := RR.2.1.1
    have W' := RR.2.1.2.1
    obtain ⟨y0, y1, y2, y3, ⟨y4, y5⟩, ⟨y6, y7⟩, ⟨y8, y9⟩, ⟨ya, yb⟩, yc⟩ := R.2.1.1
    have hcl : (nI h).toNatClampNeg = h := o_cl (by omega)
    have nd := R.2.2.2.2.1.2.1.2.1
    have hle : ¬ nI z ≤ nI k := fun q => by
      try dsimp only
      rw [n_le (by omega) (by omega)] at q
      omega
    have hcn : (nI k).toNatClampNeg = k := o_cl (by omega)
    have hk1 : nI k + Int32.ofInt 1 = nI (k + 1) := nI_a
    have in5 : fm_in Mt (Mt.2.2 305 m 0) (nI h) = true := in_nI y8 (by omega) (by decide)
    have edm : GX100_dataMode d1 Mt = (md, fm_sI Mt 358 d1 0 (Int32.ofInt 0)) := by
      try dsimp only
      rw [t_dataMode, ← hd]
      rfl
    have k1 : WK [358] Mt (fm_sI Mt 358 d1 0 (Int32.ofInt 0)) := WK_I W' nd rfl rfl _
    have T1 : Ty (fm_sI Mt 358 d1 0 (Int32.ofInt 0)) := ⟨Tm.1, tyb_sI rfl Tm.2⟩
    have R1 := relP_t k1 (by decide) T1 R
    have Fd1 := fdT_k k1 (by decide) Tm W' y0 Fd
    have hd1 := (dMo_k k1 (by decide) Tm W' nd).trans hd
    have z323 : (fm_sI Mt 358 d1 0 (Int32.ofInt 0)).2.2 323 m 0 = Mt.2.2 323 m 0 := rfl
    have x316 : (fm_sI Mt 358 d1 0 (Int32.ofInt 0)).2.1 316 m 0 = Mt.2.1 316 m 0 := rfl
    generalize hM1 : fm_sI Mt 358 d1 0 (Int32.ofInt 0) = M1 at *
    have RR1 := relP_ram R1
    obtain ⟨y0', y1', y2', y3', ⟨y4', y5'⟩, ⟨y6', y7'⟩, ⟨y8', y9'⟩, ⟨ya', yb'⟩, yc'⟩ := R1.2.1.1
    have in6 : fm_in M1 (M1.2.2 306 m 0) (nI h) = true := in_nI ya' (by omega) (by decide)
    have in3 : fm_in M1 (M1.2.2 323 m 0) (nI k) = true := in_nI (tL_323 RR1.2.1.1.1 y0') (by omega) (by decide)
    by_cases c3 : Int32.ofInt 3 ≤ md
    · refine ⟨M1, ?_, T1, x316⟩
      show FX92_watch_2 fN (FX92_watch_L2 fN j) m (nI h) (nI z) (nI k) Mt = _
      rw [(gX92_watch_2 (FX92_watch_L2 fN j) m (nI h) (nI z) (nI k) Mt Tm y0 ⟨fun w => absurd w hle, fun _ => ⟨in5, by
        try dsimp only
        rw [hcl, y9, edm]
        exact ⟨nd, fun _ => trivial, fun w => absurd c3 w⟩⟩⟩).1]
      unfold GX92_watch_2 GX92_watch_92
      try dsimp only
      rw [fi_neg hle]
      try dsimp only
      rw [hcl, y9, edm]
      try dsimp only
      rw [fi_pos c3]
      rfl
    · -- one byte
      have hm3 : ¬ md = Int32.ofInt 3 := fun q => c3 (by rw [q]; exact Int32.le_refl _)
      have one : ∀ A : Int64, (inR A 1 → ul A < 2 ^ 57 ∧ opnS F T K.1 (ul A) 8 0) → ∃ Y, HX92_watch_45 m (nI h) (nI z) (nI k) A M1 ∧ GX92_watch_45 m (nI h) (nI z) (nI k) A M1 = .inl (m, nI h, nI z, nI (k + 1), Y) ∧ Ty Y ∧ Y.2.1 316 m 0 = M1.2.1 316 m 0 ∧ WK lX92_watch M1 Y := by
        intro A hA
        by_cases cA : inR A 1
        · obtain ⟨a57, aop⟩ := hA cA
          have V := R1.2.2.2.2.2.2.1.2.1
          obtain ⟨X, ⟨i1, i2⟩, fr⟩ := X101_isOpen R1.2.2.2.2.2.2.1.2.2.1 R1.2.2.2.2.2.2.1.2.2.2.1 a57 RR1.2.1.1 V.1 V.2.2.2.1
          rw [lN_ul, bz_t aop] at i2
          rw [lN_ul] at i1
          have gi := gX101_isOpen w1 A M1 i1
          have kx : WK lX101_isOpen M1 X := by
            have := wX101_isOpen (SL lX101_isOpen) (fun _ => True) (fun _ h => h) fN w1 A M1 (wi_N RR1.2.1.2.1) trivial _ gi.1
            rw [i2] at this
            exact this
          have TX : Ty X := by
            have := gi.2.1
            rw [i2] at this
            exact this
          have n92X : fm_is X 92 92 m = true := kis kx RR1.2.1.2.1 rfl y0'
          have k3 : WK [316] X (fm_sL X 316 m 0 (X.2.1 316 m 0)) := WK_L kx.1.1 n92X rfl rfl _
          have e316 : X.2.1 316 m 0 = M1.2.1 316 m 0 := congrFun (kf (f := 316) kx rfl (dj_n (L := [316]) (by decide) 316 rfl) (wf_lt RR1.2.1.2.1 (fm_ist rfl y0'))).2.1 0
          refine ⟨fm_sL X 316 m 0 (X.2.1 316 m 0), ?_, ?_, ⟨TX.1, TX.2⟩, by rw [rLe, e316], WK_t (WK_s (by decide) kx) (WK_s (by decide) k3)⟩
          · unfold HX92_watch_45
            try dsimp only
            rw [X93_isByte]
            try dsimp only
            refine ⟨fun w => absurd w (by rw [bz_t cA]; decide), fun _ => ⟨in6, ?_⟩⟩
            try dsimp only
            rw [hcl, yb']
            exact ⟨V.1, i1, trivial⟩
          · unfold GX92_watch_45 GX92_watch_79 GX92_watch_83
            try dsimp only
            rw [X93_isByte]
            try dsimp only
            rw [bz_t cA, fi_neg (show ¬ Int32.ofInt 1 = 0 by decide), hcl, yb', i2]
            try dsimp only
            rw [fi_neg (show ¬ Int32.ofInt 1 = 0 by decide), hk1]
        · have k3 : WK [316] M1 (fm_sL M1 316 m 0 (M1.2.1 316 m 0)) := WK_L RR1.2.1.2.1 y0' rfl rfl _
          refine ⟨fm_sL M1 316 m 0 (M1.2.1 316 m 0), ?_, ?_, ⟨RR1.2.1.1.1, RR1.2.1.1.2⟩, by rw [rLe], WK_s (by decide) k3⟩
          · unfold HX92_watch_45
            try dsimp only
            rw [X93_isByte]
            try dsimp only
            exact ⟨fun _ => trivial, fun w => absurd (bz_f cA) w⟩
          · unfold GX92_watch_45 GX92_watch_79 GX92_watch_83
            try dsimp only
            rw [X93_isByte]
            try dsimp only
            rw [bz_f cA, fi_pos (show Int32.ofInt 0 = 0 from rfl), hk1]
      obtain ⟨g3_, g4_, g5_⟩ := id Fd1
      -- which byte
      obtain ⟨A, hA, hW, hN⟩ : ∃ A : Int64, (inR A 1 → ul A < 2 ^ 57 ∧ opnS F T K.1 (ul A) 8 0) ∧ (M1.1 322 m 0 = 0 → A = M1.2.1 3 (M1.2.2 323 m 0) k) ∧ (¬ M1.1 322 m 0 = 0 → A = M1.2.1 3 (M1.2.2 323 m 0) 0 + (nI k).toInt64) := by
        by_cases c : ul ad % 4096 + z ≤ 4096
        · have p0 := g4_ c
          refine ⟨_, fun _ => ?_, fun w => absurd w (by rw [g3_, bz_t c]; decide), fun _ => rfl⟩
          obtain ⟨u1, u2⟩ := ul_pk (k := k) (z := z) p0.2.1 (by rw [p0.2.2.1]; exact c) (by omega) hz
          rw [u1]
          exact ⟨u2, let_opn hm3 (by omega) 8 0 p0.2.2.2⟩
        · have p0 := g5_ c k (by omega)
          refine ⟨_, fun _ => ?_, fun _ => rfl, fun w => absurd (by rw [g3_, bz_f c]; rfl) w⟩
          exact ⟨p0.2.1, let_opn (k := 0) hm3 (by decide) 8 0 p0.2.2.2⟩
      obtain ⟨Y, o1, o2, TY, e316, kY⟩ := one A hA
      have R2 := relP_t kY (by decide) TY R1
      have Fd2 := fdT_k kY (by decide) RR1.2.1.1 RR1.2.1.2.1 y0' Fd1
      have hd2 := (dMo_k kY (by decide) RR1.2.1.1 RR1.2.1.2.1 R1.2.2.2.2.1.2.1.2.1).trans hd1
      obtain ⟨Z, z1, z2, z3⟩ := ih (k + 1) Y (by omega) R2 hd2 Fd2 j (by omega)
      refine ⟨Z, ?_, z2, z3.trans (e316.trans x316)⟩
      have h0c : (Int32.ofInt 0).toNatClampNeg = 0 := rfl
      show FX92_watch_2 fN (FX92_watch_L2 fN j) m (nI h) (nI z) (nI k) Mt = _
      rw [(gX92_watch_2 (FX92_watch_L2 fN j) m (nI h) (nI z) (nI k) Mt Tm y0 ⟨fun w => absurd w hle, fun _ => ⟨in5, by
        try dsimp only
        rw [hcl, y9, edm]
        refine ⟨nd, fun w => absurd w c3, fun _ => ⟨fun w => ?_, fun w => ?_⟩⟩
        · dsimp only
          rw [hcn, ← hW w]
          exact ⟨in3, o1⟩
        · dsimp only
          rw [h0c, ← hN w]
          exact o1⟩⟩).1]
      unfold GX92_watch_2
      try dsimp only
      rw [fi_neg hle]
      try dsimp only
      rw [hcl, y9, edm]
      try dsimp only
      rw [fi_neg c3]
      by_cases c2 : M1.1 322 m 0 = 0
      · rw [fi_pos c2, hcn, ← hW c2, o2]
        exact z1
      · rw [fi_neg c2, h0c, ← hN c2, o2]
        exact z1
theorem P_watch (R : RelP p h bd a fu cf rg u t hv kp fd m c1 f1 d1 w1 hq s dd x dk q rq r g sg bl cr np kn o fs B Bk Vv K F T rt tb Mc Mt) (To : Told d1 rt tb Mt) (hz : z ≤ 8) (hd : dMo d1 Mt = md) (Fd : FdT m F T K (Int32.ofInt 2) md z ad Mt) :
    ∃ Y, (HX92_watch m (nI h) (nI z) Mt ∧ GX92_watch m (nI h) (nI z) Mt = Y) ∧ RelP p h bd a fu cf rg u t hv kp fd m c1 f1 d1 w1 hq s dd x dk q rq r g sg bl cr np kn o fs B Bk Vv K F T rt tb Mc Y ∧ Told d1 rt tb Y ∧ WK lX92_watch Mt Y ∧ Y.2.1 316 m 0 = Mt.2.1 316 m 0 := by
  have RR := relP_ram R
  have W' := RR.2.1.2.1
  have n92 : fm_is Mt 92 92 m = true := R.2.1.1.1
  obtain ⟨Y, y1, y2, y3⟩ := wtc_L hz z 0 Mt (by omega) R hd Fd fN (by unfold fN; omega)
  have e : FX92_watch fN m (nI h) (nI z) Mt = some Y := by
    show FX92_watch_0 fN (FX92_watch_L2 fN fN) m (nI h) (nI z) Mt = _
    rw [(gX92_watch_0 (FX92_watch_L2 fN fN) m (nI h) (nI z) Mt RR.2.1.1).1]
    exact y1
  have kt : WK lX92_watch Mt Y := wk_A (fun _ => trivial) (wX92_watch (SL lX92_watch) (fun _ => True) (hx := h) (fun _ h => h) fN m (nI h) (nI z) Mt (wi_A (fun _ => trivial) (wi_N W')) trivial (o_cl (by have h1 := R.2.1.1.2.1; have h2 := R.2.1.1.2.2.1; omega)) _ e)
  exact ⟨Y, op_of (d := Mt) e (P := OkV Mt) ⟨y2, wk_ext W' kt⟩, relP_t kt (by decide) y2 R, told_k kt (by decide) RR.2.1.1 W' R.2.2.2.2.1.2.1.2.1 To, kt, y3⟩
end Ws
