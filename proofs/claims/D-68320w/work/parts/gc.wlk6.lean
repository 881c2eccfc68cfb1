/-! walks: the component's walk -/
set_option maxRecDepth 100000
section Wc
variable {t r g : Nat} {M N : FM} {K : Rg} {F T : Nat → Nat} {rt ac md : Int32} {a tb e : Int64} {d : Nat}
theorem w187 (Tm : Ty M) (n : fm_is M 91 91 t = true) (Fa : FaI t M) (hac : acc3 ac) :
    (HX84_walk_187 t ac (Int32.ofInt 0) M ∧ GX84_walk_187 t ac (Int32.ofInt 0) M = .inr (acF ac, M)) ∧ (HX84_walk_187 t ac (Int32.ofInt 1) M ∧ GX84_walk_187 t ac (Int32.ofInt 1) M = .inr (pgF ac, M)) := by
  obtain ⟨⟨f1, f2⟩, ⟨f3, f4⟩⟩ := X84_fault Tm n Fa hac
  unfold HX84_walk_187 GX84_walk_187 GX84_walk_203
  rw [f2, f4]
  exact ⟨⟨⟨f1, trivial⟩, rfl⟩, ⟨⟨f3, trivial⟩, rfl⟩⟩
theorem w132 (Tm : Ty M) (n : fm_is M 91 91 t = true) (Fa : FaI t M) (hac : acc3 ac) : HX84_walk_132 t ac M ∧ GX84_walk_132 t ac M = .inr (pgF ac, M) := by
  obtain ⟨_, ⟨f3, f4⟩⟩ := X84_fault Tm n Fa hac
  unfold HX84_walk_132 GX84_walk_132
  rw [f4]
  exact ⟨⟨f3, trivial⟩, rfl⟩
theorem w_n1 (Tm : Ty M) (n : fm_is M 91 91 t = true) (Fa : FaI t M) (hac : acc3 ac) {i : Int32} : HX84_walk_87 t a ac md i (Int32.ofInt (-1)) M ∧ GX84_walk_87 t a ac md i (Int32.ofInt (-1)) M = .inr (acF ac, M) := by
  obtain ⟨⟨f1, f2⟩, _⟩ := w187 Tm n Fa hac
  unfold HX84_walk_87 GX84_walk_87
  rw [fi_neg (by decide), fi_neg (by decide), fi_pos rfl, f2]
  exact ⟨⟨fun q => absurd q (by decide), fun _ => ⟨fun q => absurd q (by decide), fun _ => ⟨fun _ => f1, fun q => absurd rfl q⟩⟩⟩, rfl⟩
theorem w_n2 (Tm : Ty M) (n : fm_is M 91 91 t = true) (Fa : FaI t M) (hac : acc3 ac) {i : Int32} : HX84_walk_87 t a ac md i (Int32.ofInt (-2)) M ∧ GX84_walk_87 t a ac md i (Int32.ofInt (-2)) M = .inr (pgF ac, M) := by
  obtain ⟨_, ⟨f3, f4⟩⟩ := w187 Tm n Fa hac
  unfold HX84_walk_87 GX84_walk_87
  rw [fi_neg (by decide), fi_neg (by decide), fi_neg (by decide), f4]
  exact ⟨⟨fun q => absurd q (by decide), fun _ => ⟨fun q => absurd q (by decide), fun _ => ⟨fun q => absurd q (by decide), fun _ => f3⟩⟩⟩, rfl⟩
theorem w_1 {i : Int32} (h : HX84_last t a ac md i M) : HX84_walk_87 t a ac md i (Int32.ofInt 1) M ∧ GX84_walk_87 t a ac md i (Int32.ofInt 1) M = .inr (GX84_last t a ac md i M) := by
  unfold HX84_walk_87 GX84_walk_87 GX84_walk_203
  rw [fi_neg (by decide), fi_pos (by decide)]
  exact ⟨⟨fun q => absurd q (by decide), fun _ => ⟨fun _ => ⟨h, trivial⟩, fun q => absurd (by decide) q⟩⟩, rfl⟩
theorem w_0 (Tm : Ty M) (n : fm_is M 91 91 t = true) (Fa : FaI t M) (hac : acc3 ac) (he : M.2.1 293 t 0 = e) (hd : d ≤ 3) (hs : ∀ j, d = j + 1 → ¬ stp e → HX84_step t (lN (nin e)) a (nI j) M) : HX84_walk_87 t a ac md (nI d) (Int32.ofInt 0) M ∧
    GX84_walk_87 t a ac md (nI d) (Int32.ofInt 0) M = fi (d = 0 ∨ stp e) (.inr (pgF ac, M)) (.inl (t, a, ac, md, nI (d - 1), (GX84_step t (lN (nin e)) a (nI (d - 1)) M).1, (GX84_step t (lN (nin e)) a (nI (d - 1)) M).2)) := by
  obtain ⟨g1, g2⟩ := w132 Tm n Fa hac
  have b4 := X102_has (M := M) e (k := 4) (by decide)
  have b6 := X102_has (M := M) e (k := 6) (by decide)
  have b7 := X102_has (M := M) e (k := 7) (by decide)
  have bb : GX102_bits e (Int32.ofInt 10) (Int32.ofInt 44) M = (lN (nin e), M) := X102_bits (M := M) e (k := 10) (n := 44) (by decide) (by decide)
  have i0 : nI d = 0 ↔ d = 0 := ⟨fun q => nI_j (by omega) (by decide) q, fun q => by rw [q]; rfl⟩
  unfold HX84_walk_87 GX84_walk_87
  rw [fi_pos (show Int32.ofInt 0 = 0 from rfl), propext i0, he, show GX102_has e (Int32.ofInt 4) M = _ from b4]
  dsimp only
  rw [he, show GX102_has e (Int32.ofInt 6) M = _ from b6]
  dsimp only
  rw [he, show GX102_has e (Int32.ofInt 7) M = _ from b7]
  dsimp only
  rw [he, bb]
  dsimp only
  rw [g2, fi_bz, fi_bz, fi_bz]
  unfold stp at *
  by_cases hd0 : d = 0
  · rw [fi_pos hd0, fi_pos (Or.inl hd0)]
    exact ⟨⟨fun _ => ⟨fun _ => g1, fun q => absurd hd0 q⟩, fun q => absurd rfl q⟩, rfl⟩
  · obtain ⟨j, rfl⟩ : ∃ j, d = j + 1 := ⟨d - 1, by omega⟩
    rw [fi_neg hd0, dn_2 (by omega)]
    show _ ∧ _ = fi _ _ (Sum.inl (t, a, ac, md, nI j, _, _))
    refine ⟨⟨fun _ => ⟨fun _ => g1, fun _ => ⟨fun z4 => ⟨fun z6 => ⟨fun z7 => ⟨?_, trivial⟩, fun _ => g1⟩, fun _ => g1⟩, fun _ => g1⟩⟩, fun q => absurd rfl q⟩, ?_⟩
    · exact hs j rfl (fun z => z.elim (bz_0.mp z4) (fun z => z.elim (bz_0.mp z6) (bz_0.mp z7)))
    · by_cases h4 : lb e 4 = true
      · rw [fi_pos h4, fi_pos (Or.inr (Or.inl h4))]
      · rw [fi_neg h4]
        by_cases h6 : lb e 6 = true
        · rw [fi_pos h6, fi_pos (Or.inr (Or.inr (Or.inl h6)))]
        · rw [fi_neg h6]
          by_cases h7 : lb e 7 = true
          · rw [fi_pos h7, fi_pos (Or.inr (Or.inr (Or.inr h7)))]
          · rw [fi_neg h7, fi_neg (fun z => z.elim hd0 (fun z => z.elim h4 (fun z => z.elim h6 h7)))]
            rfl
/-- the walk from a depth on: what comes of it, what is noted of it -/
def WkC (t r : Nat) (M : FM) (K : Rg) (F T : Nat → Nat) (rt ac md : Int32) (a : Int64) (d : Nat) : Prop := ∀ (pg J k : Nat) (X : FM), pg < 2 ^ 44 → d < J → k + d < 4 → FrTW t M X → X.1 294 t 0 = nI k →
  ∃ N, FrTW t M N ∧ HX84_step t (lN pg) a (nI d) X ∧
    FX84_walk_L87 fN J t a ac md (nI d) (GX84_step t (lN pg) a (nI d) X).1 (GX84_step t (lN pg) a (nI d) X).2 =
      some (wval (wlk (ldC r M) (okLw F T K) (okSw F T K) rt ac md (ul a / 4096) (d + 1) pg) (ul a % 4096), wrC r (wlk (ldC r M) (okLw F T K) (okSw F T K) rt ac md (ul a / 4096) (d + 1) pg).2.1 N) ∧
    OkV M (wrC r (wlk (ldC r M) (okLw F T K) (okSw F T K) rt ac md (ul a / 4096) (d + 1) pg).2.1 N) ∧
    N.1 294 t 0 = nI (k + (wlk (ldC r M) (okLw F T K) (okSw F T K) rt ac md (ul a / 4096) (d + 1) pg).2.2.length) ∧
    (∀ j, j < k → N.2.1 3 (M.2.2 295 t 0) j = X.2.1 3 (M.2.2 295 t 0) j) ∧
    ∀ j, j < (wlk (ldC r M) (okLw F T K) (okSw F T K) rt ac md (ul a / 4096) (d + 1) pg).2.2.length → N.2.1 3 (M.2.2 295 t 0) (k + j) = lN ((wlk (ldC r M) (okLw F T K) (okSw F T K) rt ac md (ul a / 4096) (d + 1) pg).2.2.getD j 0)
theorem wlk_main (V : WtC t r g M K rt tb) (I : VGi K) (C : covR K F T) (hac : acc3 ac) (hd : d ≤ 3) (hrec : ∀ j, d = j + 1 → WkC t r M K F T rt ac md a j) : WkC t r M K F T rt ac md a d := by
  intro pg J k X hp hJ hk fX h294
  obtain ⟨J, rfl⟩ : ∃ x, J = x + 1 := ⟨J - 1, by omega⟩
  have VX := frT_V fX V
  have e295 : X.2.2 295 t 0 = M.2.2 295 t 0 := by rw [fX.1]
  have hx := eat_lt (A := ul a / 4096) (d := d) hp
  obtain ⟨N, fN', hH, e292, hG, hno, hyes⟩ := X84_step (a := a) VX I C hd hp (show k < 4 by omega) h294
  have fN2 := frT_tW fX fN'
  have VN := frT_V fN' VX
  have TN := VN.1.1
  have nN := VN.2.2.1
  have FaN := VN.2.2.2.2.2.2.1
  rw [e295] at hno hyes
  rw [hG]
  unfold wlk
  generalize hX : eat (ul a / 4096) d pg = x at *
  dsimp only
  have le : okR x → ldC r X x = ldC r M x := fun ok => ldC_s V.1 VX.1 (fun i hi => frT_cmb fX V.2.2.1 V.1 hi) ok
  by_cases ok : okLw F T K x
  · rw [le ok.1] at hyes ⊢
    obtain ⟨y1, y2, y3⟩ := hyes ok
    generalize ldC r M x = e at *
    rw [fi_pos ok, fi_pos ok]
    have lt1 : ∀ j, j < k → N.2.1 3 (M.2.2 295 t 0) j = X.2.1 3 (M.2.2 295 t 0) j := fun j hj => by rw [y3, if_neg (by omega)]
    have one : ∀ j, j < [x].length → N.2.1 3 (M.2.2 295 t 0) (k + j) = lN ([x].getD j 0) := fun j hj => by
      have : j = 0 := by simpa using hj
      subst this
      rw [y3, if_pos (by omega)]
      rfl
    by_cases h2 : brk e
    · rw [fi_pos h2, fi_pos h2]
      obtain ⟨g1, g2⟩ := w_n2 (a := a) (md := md) TN nN FaN hac (i := nI d)
      have G0 := (gX84_walk_87 (FX84_walk_L87 fN J) t a ac md (nI d) (Int32.ofInt (-2)) N TN nN g1).1
      rw [g2] at G0
      exact ⟨N, fN2, hH, G0, ⟨TN, frT_ext fN2⟩, y2, lt1, one⟩
    · rw [fi_neg h2, fi_neg h2]
      by_cases h3 : lea e
      · rw [fi_pos h3, fi_pos h3]
        obtain ⟨l1, l2, l3⟩ := X84_last (a := a) (md := md) VN I C hac hd hx ok.1 e292 y1
        obtain ⟨g1, g2⟩ := w_1 l1
        have G0 := (gX84_walk_87 (FX84_walk_L87 fN J) t a ac md (nI d) (Int32.ofInt 1) N TN nN g1).1
        rw [g2, l2] at G0
        have e2 := (lst_w (okS := okSw F T K) (rt := rt) (ac := ac) (md := md) (A := ul a / 4096) (x := x) (e := e) (d := d)).2
        rw [e2]
        exact ⟨N, fN2, hH, G0, ⟨l3.1, ext_tr (frT_ext fN2) l3.2⟩, y2, lt1, one⟩
      · rw [fi_neg h3, fi_neg h3]
        have hs : ∀ j, d = j + 1 → ¬ stp e → ∃ N', FrTW t M N' ∧ HX84_step t (lN (nin e)) a (nI j) N ∧ _ := fun j hj _ => hrec j hj (nin e) J (k + 1) N (nin_lt e) (by omega) (by omega) fN2 y2
        obtain ⟨g1, g2⟩ := w_0 (a := a) (ac := ac) (md := md) TN nN FaN hac y1 hd (fun j hj hq => by
          obtain ⟨_, _, z, _⟩ := hs j hj hq
          exact z)
        have G0 := (gX84_walk_87 (FX84_walk_L87 fN J) t a ac md (nI d) (Int32.ofInt 0) N TN nN g1).1
        rw [g2] at G0
        by_cases h4 : d = 0 ∨ stp e
        · rw [fi_pos h4] at G0
          rw [fi_pos h4]
          exact ⟨N, fN2, hH, G0, ⟨TN, frT_ext fN2⟩, y2, lt1, one⟩
        · rw [fi_neg h4] at G0
          rw [fi_neg h4]
          obtain ⟨j, rfl⟩ : ∃ j, d = j + 1 := ⟨d - 1, by omega⟩
          obtain ⟨N', z1, z2, z3, z4, z5, z6, z7⟩ := hs j rfl (fun q => h4 (Or.inr q))
          generalize wlk (ldC r M) (okLw F T K) (okSw F T K) rt ac md (ul a / 4096) (j + 1) (nin e) = O at *
          refine ⟨N', z1, hH, G0.trans z3, z4, ?_, fun i hi => ?_, fun i hi => ?_⟩
          · rw [z5, List.length_cons]
            exact congrArg nI (by omega)
          · rw [z6 i (by omega)]
            exact lt1 i hi
          · cases i with
            | zero =>
              rw [z6 _ (by omega), y3, if_pos (by omega)]
              rfl
            | succ i =>
              rw [List.length_cons] at hi
              have := z7 i (by omega)
              rw [show k + (i + 1) = k + 1 + i by omega, this]
              rfl
  · rw [fi_neg ok, fi_neg ok]
    obtain ⟨y1, y2⟩ := hno ok
    obtain ⟨g1, g2⟩ := w_n1 (a := a) (md := md) TN nN FaN hac (i := nI d)
    have G0 := (gX84_walk_87 (FX84_walk_L87 fN J) t a ac md (nI d) (Int32.ofInt (-1)) N TN nN g1).1
    rw [g2] at G0
    exact ⟨N, fN2, hH, G0, ⟨TN, frT_ext fN2⟩, y1, fun j _ => y2 j, fun j hj => absurd hj (Nat.not_lt_zero j)⟩
theorem wlk_C (V : WtC t r g M K rt tb) (I : VGi K) (C : covR K F T) (hac : acc3 ac) : ∀ d, d ≤ 3 → WkC t r M K F T rt ac md a d := by
  intro d
  induction d with
  | zero => exact fun hd => wlk_main V I C hac hd (fun j hj => by omega)
  | succ d ih => exact fun hd => wlk_main V I C hac hd (fun j hj => by
      have : j = d := by omega
      rw [this]
      exact ih (by omega))
theorem X84_walk (V : WtC t r g M K rt tb) (I : VGi K) (C : covR K F T) (hac : acc3 ac) :
    ∃ N, FrTW t M N ∧ HX84_walk t a ac md M ∧ GX84_walk t a ac md M = (wval (wlk0 (ldC r M) (okLw F T K) (okSw F T K) rt ac md a tb) (ul a % 4096), wrC r (wlk0 (ldC r M) (okLw F T K) (okSw F T K) rt ac md a tb).2.1 N) ∧
      OkV M (wrC r (wlk0 (ldC r M) (okLw F T K) (okSw F T K) rt ac md a tb).2.1 N) ∧
      ((∃ b, (wlk0 (ldC r M) (okLw F T K) (okSw F T K) rt ac md a tb).1 = .inr b) → N.1 294 t 0 = nI (wlk0 (ldC r M) (okLw F T K) (okSw F T K) rt ac md a tb).2.2.length ∧
        ∀ j, j < (wlk0 (ldC r M) (okLw F T K) (okSw F T K) rt ac md a tb).2.2.length → N.2.1 3 (M.2.2 295 t 0) j = lN ((wlk0 (ldC r M) (okLw F T K) (okSw F T K) rt ac md a tb).2.2.getD j 0)) := by
  have V0 := V
  obtain ⟨R, m2, n, hr, hg, vg, fa, ht, hrt⟩ := V
  obtain ⟨_, ⟨f3, f4⟩⟩ := X84_fault R.1 n fa hac
  have dl := dps_le tb
  have d3 : 3 ≤ dps tb := by
    unfold dps
    by_cases h : srt tb = 8
    · rw [fi_pos h]; exact Nat.le_refl _
    · rw [fi_neg h]; decide
  have b60 : GX102_bits tb (Int32.ofInt 60) (Int32.ofInt 4) M = (lN (ul tb / 2 ^ 60 % 2 ^ 4), M) := X102_bits (M := M) tb (k := 60) (n := 4) (by decide) (by decide)
  have e8 : lg_cmp (lN (ul tb / 2 ^ 60 % 2 ^ 4)) (Int64.ofInt 8) = 0 ↔ srt tb = 8 := by
    have := ul_lt tb
    have p60 : (2 : Nat) ^ 60 = 1152921504606846976 := by decide
    have p4 : (2 : Nat) ^ 4 = 16 := by decide
    rw [cl_eq, show ul (Int64.ofInt 8) = 8 from rfl, l_big (by omega)]
    unfold srt
    omega
  have f0 : FrTW t M (fm_sI M 294 t 0 (Int32.ofInt 0)) := frT_IW (frT_rW t M)
  have h0 : (fm_sI M 294 t 0 (Int32.ofInt 0)).1 294 t 0 = nI 0 := if_pos ⟨rfl, rfl, rfl⟩
  have t0 : (fm_sI M 294 t 0 (Int32.ofInt 0)).2.1 289 t 0 = tb := ht
  have b44 : GX102_bits tb (Int32.ofInt 0) (Int32.ofInt 44) (fm_sI M 294 t 0 (Int32.ofInt 0)) = (lN (ul tb % 2 ^ 44), fm_sI M 294 t 0 (Int32.ofInt 0)) := by
    rw [show Int32.ofInt 0 = nI 0 from rfl, show Int32.ofInt 44 = nI 44 from rfl, X102_bits tb (by decide) (by decide), Nat.pow_zero, Nat.div_one]
  obtain ⟨N, z1, z2, z3, z4, z5, _, z7⟩ := wlk_C (a := a) (md := md) V0 I C hac (dps tb - 1) (by omega) (ul tb % 2 ^ 44) fN 0 (fm_sI M 294 t 0 (Int32.ofInt 0)) (Nat.mod_lt _ (Nat.two_pow_pos 44)) (by unfold fN; omega) (by omega) f0 h0
  rw [show dps tb - 1 + 1 = dps tb by omega] at z3 z4 z5 z7
  simp only [Nat.zero_add] at z5 z7
  have w22 : ∀ D, D = dps tb → HX84_walk_22 t a ac md (nI D) M ∧ GX84_walk_22 t a ac md (nI D) M = fi (can a (9 * dps tb + 11)) (.inl (t, a, ac, md, nI (dps tb - 1), (GX84_step t (lN (ul tb % 2 ^ 44)) a (nI (dps tb - 1)) (fm_sI M 294 t 0 (Int32.ofInt 0))).1, (GX84_step t (lN (ul tb % 2 ^ 44)) a (nI (dps tb - 1)) (fm_sI M 294 t 0 (Int32.ofInt 0))).2)) (.inr (pgF ac, M)) := by
    intro D hD
    have e52 : Int32.ofInt 52 - Int32.ofInt 9 * nI D = nI (52 - 9 * D) := by
      rw [lb_ushr9]
      apply ui_inj
      rw [ui_sub, ui_nI, ui_nI, show ui (Int32.ofInt 52) = 52 from rfl]
      omega
    have ed : nI D - Int32.ofInt 1 = nI (dps tb - 1) := by
      obtain ⟨j, rfl⟩ : ∃ j, D = j + 1 := ⟨D - 1, by omega⟩
      rw [n_dn (by omega)]
      exact congrArg nI (by omega)
    have cc := can_c a (p := nI (52 - 9 * D)) (s := 52 - 9 * D) (by rw [ui_nI]; omega) (by omega)
    rw [show 63 - (52 - 9 * D) = 9 * dps tb + 11 by omega] at cc
    unfold HX84_walk_22 GX84_walk_22
    rw [e52, ed]
    dsimp only
    rw [propext cc, t0, b44, f4]
    exact ⟨⟨fun _ => ⟨z2, trivial⟩, fun _ => ⟨f3, trivial⟩⟩, rfl⟩
  have H0 : HX84_walk_0 t a ac md M ∧ GX84_walk_0 t a ac md M = fi (can a (9 * dps tb + 11)) (.inl (t, a, ac, md, nI (dps tb - 1), (GX84_step t (lN (ul tb % 2 ^ 44)) a (nI (dps tb - 1)) (fm_sI M 294 t 0 (Int32.ofInt 0))).1, (GX84_step t (lN (ul tb % 2 ^ 44)) a (nI (dps tb - 1)) (fm_sI M 294 t 0 (Int32.ofInt 0))).2)) (.inr (pgF ac, M)) := by
    unfold HX84_walk_0 GX84_walk_0
    rw [ht, b60]
    dsimp only
    rw [propext e8]
    by_cases h : srt tb = 8
    · have hd : 3 = dps tb := by unfold dps; rw [fi_pos h]
      obtain ⟨x1, x2⟩ := w22 3 hd
      rw [fi_pos h]
      exact ⟨⟨fun _ => x1, fun q => absurd h q⟩, x2⟩
    · have hd : 4 = dps tb := by unfold dps; rw [fi_neg h]
      obtain ⟨x1, x2⟩ := w22 4 hd
      rw [fi_neg h]
      exact ⟨⟨fun q => absurd q h, fun _ => x1⟩, x2⟩
  have G0 : FX84_walk fN t a ac md M = _ := (gX84_walk_0 (FX84_walk_L87 fN fN) t a ac md M R.1 n H0.1).1
  rw [H0.2] at G0
  unfold wlk0
  by_cases h1 : can a (9 * dps tb + 11)
  · rw [fi_pos h1] at G0
    rw [fi_pos h1]
    obtain ⟨o1, o2⟩ := op_of (d := (0, M)) (G0.trans z3) (P := OkR M) z4
    exact ⟨N, z1, o1, o2, z4, fun _ => ⟨z5, z7⟩⟩
  · rw [fi_neg h1] at G0
    rw [fi_neg h1]
    obtain ⟨o1, o2⟩ := op_of (d := ((0 : Int64), M)) G0 (P := OkR M) ⟨R.1, ext_r M⟩
    exact ⟨M, frT_rW t M, o1, o2, ⟨R.1, ext_r M⟩, fun ⟨b, hb⟩ => by cases hb⟩
end Wc
