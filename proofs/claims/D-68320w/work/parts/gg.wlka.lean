/-! walks: the component translates, whole -/
set_option maxRecDepth 100000
section Tl
variable {t r g k : Nat} {M X : FM} {K : Rg} {F T : Nat → Nat} {rt ac md : Int32} {a tb p : Int64} {es : List Nat}
def FrA (k : Nat) (M M' : FM) : Prop := M'.1 = M.1 ∧ M'.2.2 = M.2.2 ∧ ∀ f b i, ¬ (f = 3 ∧ (b = M.2.2 278 k 0 ∨ b = M.2.2 279 k 0)) → M'.2.1 f b i = M.2.1 f b i
theorem frA_P {Y : FM} (h : FrA k X Y) : FrP k X Y := ⟨h.2.1, fun _ _ _ _ => by rw [h.1], fun f b i z => h.2.2 f b i (fun q => z (Or.inr q))⟩
theorem tr_loop (V : WtC t r g X K rt tb) (nk : fm_is X 88 88 k = true) (h4 : es.length ≤ 4) (ok : ∀ x, x ∈ es → x < 2 ^ 57 ∧ okR x ∧ x % 8 = 0) (hd : X.1 294 t 0 = nI es.length) (htr : ∀ j, j < es.length → X.2.1 3 (X.2.2 295 t 0) j = lN (es.getD j 0)) :
    ∀ m i J, i + m = es.length → m < J → ∀ Y, FrA k X Y → (∀ j, j < i → Y.2.1 3 (X.2.2 278 k 0) j = lN (es.getD j 0) ∧ Y.2.1 3 (X.2.2 279 k 0) j = cwr X r (pgn (es.getD j 0))) →
      ∃ N, FX84_translate_L267 fN J t k p (nI i) Y = some (p, N) ∧ FrA k X N ∧ ∀ j, j < es.length → N.2.1 3 (X.2.2 278 k 0) j = lN (es.getD j 0) ∧ N.2.1 3 (X.2.2 279 k 0) j = cwr X r (pgn (es.getD j 0)) := by
  have p57 : (2 : Nat) ^ 57 = 144115188075855872 := by decide
  have W := V.1.2.1
  have Tm := V.1.1
  have n := V.2.2.1
  have nr := V.1.2.2.1
  have n8 := tN_278 Tm.1 nk
  have n9 := tN_279 Tm.1 nk
  have ne89 := sf_ne W (sS_278 W nk) (sS_279 W nk) (lo := 902) rfl n8 (by decide)
  have ne8t := sf_ne W (sS_278 W nk) (sS_295 W n) (lo := 902) rfl n8 (by decide)
  have ne9t := sf_ne W (sS_279 W nk) (sS_295 W n) (lo := 902) rfl n9 (by decide)
  have ne8c := sf_ne W (sS_278 W nk) (sS_204 W nr) (lo := 902) rfl n8 (by decide)
  have ne9c := sf_ne W (sS_279 W nk) (sS_204 W nr) (lo := 902) rfl n9 (by decide)
  intro m
  induction m with
  | zero =>
    intro i J hi hJ Y fY hY
    obtain ⟨J, rfl⟩ : ∃ x, J = x + 1 := ⟨J - 1, by omega⟩
    have TY : Ty Y := ty_eq fY.1 fY.2.1 Tm
    have nY : fm_is Y 91 91 t = true := by unfold fm_is at *; rw [fY.2.1]; exact n
    have nkY : fm_is Y 88 88 k = true := by unfold fm_is at *; rw [fY.2.1]; exact nk
    have le : Y.1 294 t 0 ≤ nI i := by
      rw [fY.1, hd, i_le (by rw [ui_nI]; omega) (by rw [ui_nI]; omega), ui_nI, ui_nI]
      omega
    show ∃ N, FX84_translate_267 fN (FX84_translate_L267 fN J) t k p (nI i) Y = some (p, N) ∧ _
    rw [(gX84_translate_267 (FX84_translate_L267 fN J) t k p (nI i) Y TY nY nkY ⟨fun _ => trivial, fun q => absurd le q⟩).1]
    unfold GX84_translate_267 GX84_translate_321
    rw [fi_pos le]
    exact ⟨Y, rfl, fY, fun j hj => hY j (by omega)⟩
  | succ m ih =>
    intro i J hi hJ Y fY hY
    obtain ⟨J, rfl⟩ : ∃ x, J = x + 1 := ⟨J - 1, by omega⟩
    have TY : Ty Y := ty_eq fY.1 fY.2.1 Tm
    have nY : fm_is Y 91 91 t = true := by unfold fm_is at *; rw [fY.2.1]; exact n
    have nkY : fm_is Y 88 88 k = true := by unfold fm_is at *; rw [fY.2.1]; exact nk
    have hl : i < es.length := by omega
    obtain ⟨x1, x2, x3⟩ := ok _ (getD_m hl)
    have nle : ¬ Y.1 294 t 0 ≤ nI i := by
      rw [fY.1, hd, i_le (by rw [ui_nI]; omega) (by rw [ui_nI]; omega), ui_nI, ui_nI]
      omega
    have ec : (nI i).toNatClampNeg = i := o_cl (by omega)
    have eT : Y.2.1 3 (X.2.2 295 t 0) i = lN (es.getD i 0) := (fY.2.2 _ _ _ (fun q => q.2.elim (fun z => ne8t z.symm) (fun z => ne9t z.symm))).trans (htr i hl)
    have e295 : Y.2.2 295 t 0 = X.2.2 295 t 0 := by rw [fY.2.1]
    have e278 : Y.2.2 278 k 0 = X.2.2 278 k 0 := by rw [fY.2.1]
    generalize hM3 : fm_sL Y 3 (X.2.2 278 k 0) i (lN (es.getD i 0)) = M3
    have f3 : FrA k X M3 := by
      rw [← hM3]
      exact ⟨fY.1, fY.2.1, fun f b j z => by rw [rL, if_neg (fun q => z ⟨q.1, Or.inl q.2.1⟩)]; exact fY.2.2 f b j z⟩
    have T3 : Ty M3 := ty_eq f3.1 f3.2.1 Tm
    have R3 := (frP_q (frA_P f3) nk T3 V.1)
    have e295' : M3.2.2 295 t 0 = X.2.2 295 t 0 := by rw [f3.2.1]
    have e279' : M3.2.2 279 k 0 = X.2.2 279 k 0 := by rw [f3.2.1]
    have eT3 : M3.2.1 3 (X.2.2 295 t 0) i = lN (es.getD i 0) := (f3.2.2 _ _ _ (fun q => q.2.elim (fun z => ne8t z.symm) (fun z => ne9t z.symm))).trans (htr i hl)
    have hr3 : M3.2.2 247 (M3.2.2 287 t 0) 0 = r := by rw [f3.2.1]; exact V.2.2.2.1
    obtain ⟨w1, w2⟩ := X85_writes (x := es.getD i 0) hr3 R3.1 (by omega) x2
    rw [R3.2.2.2.2.1] at w2
    have i1 : fm_in Y (X.2.2 295 t 0) (nI i) = true := in_nI (by rw [fY.2.1]; exact tL_295 Tm.1 n) (show i < 4 by omega) (by decide)
    have i2 : fm_in Y (X.2.2 278 k 0) (nI i) = true := in_nI (by rw [fY.2.1]; exact tL_278 Tm.1 nk) (show i < 4 by omega) (by decide)
    have i3 : fm_in M3 (X.2.2 295 t 0) (nI i) = true := in_nI (by rw [f3.2.1]; exact tL_295 Tm.1 n) (show i < 4 by omega) (by decide)
    have i4 : fm_in M3 (X.2.2 279 k 0) (nI i) = true := in_nI (by rw [f3.2.1]; exact tL_279 Tm.1 nk) (show i < 4 by omega) (by decide)
    have hH : HX84_translate_267 t k p (nI i) Y := by
      refine ⟨fun q => absurd q nle, fun _ => ?_⟩
      dsimp only
      rw [e295, e278, ec, eT, hM3, e295', eT3, w2, e279']
      exact ⟨i1, i2, i3, w1, i4, trivial⟩
    show ∃ N, FX84_translate_267 fN (FX84_translate_L267 fN J) t k p (nI i) Y = some (p, N) ∧ _
    rw [(gX84_translate_267 (FX84_translate_L267 fN J) t k p (nI i) Y TY nY nkY hH).1]
    unfold GX84_translate_267
    rw [fi_neg nle]
    dsimp only
    rw [e295, e278, ec, eT, hM3, e295', eT3, w2, e279', up_1 (by omega)]
    dsimp only
    show ∃ N, FX84_translate_L267 fN J t k p (nI (i + 1)) (fm_sL M3 3 (X.2.2 279 k 0) i (cwr X r (pgn (es.getD i 0)))) = some (p, N) ∧ _
    refine ih (i + 1) J (by omega) (by omega) _ ⟨f3.1, f3.2.1, fun f b j z => ?_⟩ (fun j hj => ?_)
    · rw [rL, if_neg (fun q => z ⟨q.1, Or.inr q.2.1⟩)]
      exact f3.2.2 f b j z
    · rw [rL, rL, if_neg (fun q => ne89 q.2.1), ← hM3, rL, rL]
      by_cases q : j = i
      · rw [if_pos ⟨rfl, rfl, q⟩, if_pos ⟨rfl, rfl, q⟩, q]
        exact ⟨rfl, rfl⟩
      · rw [if_neg (fun z => q z.2.2), if_neg (fun z => q z.2.2), if_neg (fun z => q z.2.2)]
        exact hY j (by omega)
theorem bits12 (a : Int64) (Y : FM) : GX102_bits a (Int32.ofInt 0) (Int32.ofInt 12) Y = (lN (ul a % 4096), Y) := by
  rw [show Int32.ofInt 0 = nI 0 from rfl, show Int32.ofInt 12 = nI 12 from rfl, X102_bits a (by decide) (by decide), Nat.pow_zero, Nat.div_one]
theorem g179_0 {pg : Int64} : GX84_translate_179 t a ac md pg k p k (Int32.ofInt 0) X = .inr (p, fm_sI X 269 k 0 (Int32.ofInt 0)) := by
  unfold GX84_translate_179 GX84_translate_321
  dsimp only
  rw [fi_pos (by rw [rI, if_pos ⟨rfl, rfl, rfl⟩]; rfl)]
theorem g179_1 {pg : Int64} (V : WtC t r g X K rt tb) : GX84_translate_179 t a ac md pg k p k (Int32.ofInt 1) X = .inl (t, k, p, Int32.ofInt 0, ksM k pg ac md tb rt (X.1 285 g 0) (p - lN (ul a % 4096)) (X.1 294 t 0) X) := by
  obtain ⟨_, _, _, _, hg, _, _, ht, hrt⟩ := V
  unfold GX84_translate_179
  dsimp only
  rw [fi_neg (by rw [rI, if_pos ⟨rfl, rfl, rfl⟩]; decide), bits12]
  dsimp only
  simp (decide := true) only [rI, rL, rI1, rL0, rI2, rL2, false_and, if_false]
  rw [ht, hrt, hg]
  rfl
/-- what holds behind a translation -/
def TrC (t r g B Vv : Nat) (M : FM) (K : Rg) (F T : Nat → Nat) (rt : Int32) (tb : Int64) (w : Option (Nat × Int64)) (N : FM) : Prop :=
  WtC t r g N K rt tb ∧ StK t N ∧ (∀ j, j < 64 → KeC t r g (B + 1) Vv N K F T j) ∧ N.1 285 g 0 = M.1 285 g 0 ∧ ∃ N1, RamQ r M N1 ∧ RamQ r (wrC r w N1) N
theorem kpt_is (Tm : Ty M) (n : fm_is M 91 91 t = true) {i : Nat} (hi : i < 64) : fm_is M 88 88 (kpt t i M) = true := by
  have := tE_926 (i := nI i) Tm.1 (tN_291 Tm.1 n) (in_nI (tL_291 Tm.1 n) hi (by decide))
  rw [o_cl (by omega)] at this
  exact this
theorem tr_miss {B Vv i : Nat} (V : WtC t r g M K rt tb) (I : VGi K) (C : covR K F T) (hac : acc3 ac) (hi : i < 64) (St : StK t M) (Ke : ∀ j, j < 64 → KeC t r g B Vv M K F T j) :
    ∃ N, HX84_translate_155 t a ac md (a >>> ((Int32.ofInt 12).toInt64 &&& 63)) (kpt t i M) M ∧
      kX84_translate (FX84_translate_L267 fN fN) (GX84_translate_155 t a ac md (a >>> ((Int32.ofInt 12).toInt64 &&& 63)) (kpt t i M) M) = some (wval (wlk0 (ldC r M) (okLw F T K) (okSw F T K) rt ac md a tb) (ul a % 4096), N) ∧
      OkV M N ∧ TrC t r g B Vv M K F T rt tb (wlk0 (ldC r M) (okLw F T K) (okSw F T K) rt ac md a tb).2.1 N := by
  have p57 : (2 : Nat) ^ 57 = 144115188075855872 := by decide
  obtain ⟨N1, f1, w1, w2, w3, w4⟩ := X84_walk (a := a) (md := md) V I C hac
  have V1 := frT_V f1 V
  have Q1 := frT_q f1 V.2.2.1 V.1
  have o8 := wlk0_8 (ld := ldC r M) (okL := okLw F T K) (okS := okSw F T K) (rt := rt) (ac := ac) (md := md) (a := a) (tb := tb)
  have oOk := wlk0_ok (ld := ldC r M) (okL := okLw F T K) (okS := okSw F T K) (rt := rt) (ac := ac) (md := md) (a := a) (tb := tb)
  have oW := wlk0_w (ld := ldC r M) (okL := okLw F T K) (okS := okSw F T K) (rt := rt) (ac := ac) (md := md) (a := a) (tb := tb)
  have oB := fun b => wlk0_b (ld := ldC r M) (okL := okLw F T K) (okS := okSw F T K) (rt := rt) (ac := ac) (md := md) (a := a) (tb := tb) (b := b)
  have oL := fun b => wlk0_l (ld := ldC r M) (okL := okLw F T K) (okS := okSw F T K) (rt := rt) (ac := ac) (md := md) (a := a) (tb := tb) (f := b)
  have oA := fun b => wlk0_again (ld := ldC r M) (okL := okLw F T K) (okS := okSw F T K) (rt := rt) (ac := ac) (md := md) (a := a) (tb := tb) (b := b)
  have oC := fun ld' => wlk0_c (ld := ldC r M) (ld' := ld') (okL := okLw F T K) (okS := okSw F T K) (rt := rt) (ac := ac) (md := md) (a := a) (tb := tb)
  generalize ho : wlk0 (ldC r M) (okLw F T K) (okSw F T K) rt ac md a tb = o at *
  have okx : ∀ x, x ∈ o.2.2 → x < 2 ^ 57 ∧ okR x ∧ x % 8 = 0 := fun x hx => ⟨(o8.2 x hx).2, (oOk.2 x hx).1, (o8.2 x hx).1⟩
  have hw : ∀ q, o.2.1 = some q → q.1 < 2 ^ 57 ∧ okR q.1 ∧ q.1 % 8 = 0 := fun q hq => okx _ (oW q hq).2.2
  obtain ⟨RMw, kMw, eMw, vMw, lMw⟩ := wrC_k V1.1 hw
  have VMw := wtC_k kMw RMw V1
  have oOkV := w3
  generalize hMw : wrC r o.2.1 N1 = Mw at *
  have W1 := V1.1.2.1
  have T1 := V1.1.1
  have n1 := V1.2.2.1
  have nk := kpt_is V.1.1 V.2.2.1 hi
  have nkj : ∀ j, j < 64 → fm_is M 88 88 (kpt t j M) = true := fun j hj => kpt_is V.1.1 V.2.2.1 hj
  have ek1 : ∀ j, kpt t j N1 = kpt t j M := fun j => by unfold kpt; rw [f1.1]
  have n291 := tN_291 T1.1 n1
  have lt : t < fm_nx N1 := wf_lt W1 (fm_ist rfl n1)
  have e291 : Mw.2.2 291 t 0 = N1.2.2 291 t 0 := congrFun (kf (f := 291) kMw rfl (by decide) lt).2.2 0
  have ekw : ∀ j, kpt t j Mw = kpt t j M := fun j => by
    unfold kpt
    rw [e291, congrFun (ka kMw (sS_291 W1 n1) (wf_n0 W1 (fm_ist rfl n291)) (by decide) (wf_lt W1 (fm_ist rfl n291))).2.2 j]
    exact ek1 j
  -- what a place of what is kept shows in Mw
  have keep : ∀ j, j < 64 → (∀ f, 269 ≤ f → f ≤ 279 → Mw.1 f (kpt t j M) 0 = M.1 f (kpt t j M) 0 ∧ Mw.2.1 f (kpt t j M) 0 = M.2.1 f (kpt t j M) 0 ∧ Mw.2.2 f (kpt t j M) 0 = M.2.2 f (kpt t j M) 0) ∧
      ∀ x, Mw.2.1 3 (M.2.2 278 (kpt t j M) 0) x = M.2.1 3 (M.2.2 278 (kpt t j M) 0) x ∧ Mw.2.1 3 (M.2.2 279 (kpt t j M) 0) x = M.2.1 3 (M.2.2 279 (kpt t j M) 0) x := fun j hj => by
    have nj1 : fm_is N1 88 88 (kpt t j M) = true := frT_isW f1 (nkj j hj)
    have lj := wf_lt W1 (fm_ist rfl nj1)
    have n8 := tN_278 T1.1 nj1
    have n9 := tN_279 T1.1 nj1
    have k8 := ka kMw (sS_278 W1 nj1) (wf_n0 W1 (fm_ist rfl n8)) (by decide) (wf_lt W1 (fm_ist rfl n8))
    have k9 := ka kMw (sS_279 W1 nj1) (wf_n0 W1 (fm_ist rfl n9)) (by decide) (wf_lt W1 (fm_ist rfl n9))
    have ne8 := sf_ne W1 (sS_278 W1 nj1) (sS_295 W1 n1) (lo := 902) rfl n8 (by decide)
    have ne9 := sf_ne W1 (sS_279 W1 nj1) (sS_295 W1 n1) (lo := 902) rfl n9 (by decide)
    rw [f1.1] at k8 k9 ne8 ne9
    refine ⟨fun f h1 h2 => ?_, fun x => ⟨?_, ?_⟩⟩
    · have hs : ¬ SfR f := by
        have : f = 269 ∨ f = 270 ∨ f = 271 ∨ f = 272 ∨ f = 273 ∨ f = 274 ∨ f = 275 ∨ f = 276 ∨ f = 277 ∨ f = 278 ∨ f = 279 := by omega
        rcases this with z | z | z | z | z | z | z | z | z | z | z <;> rw [z] <;> decide
      have kk := kf (f := f) kMw (Nat.ble_eq.mpr (by omega)) hs lj
      rw [congrFun kk.1 0, congrFun kk.2.1 0, congrFun kk.2.2 0, f1.1, f1.2.1 _ _ _ (fun q => by omega), f1.2.2 _ _ _ (fun q => by omega)]
      exact ⟨rfl, rfl, rfl⟩
    · rw [congrFun k8.2.1 x]
      exact f1.2.2 _ _ _ (fun q => q.elim (fun z => by omega) (fun z => ne8 z.2))
    · rw [congrFun k9.2.1 x]
      exact f1.2.2 _ _ _ (fun q => q.elim (fun z => by omega) (fun z => ne9 z.2))
  have nkw : fm_is Mw 88 88 (kpt t i M) = true := by rw [← ekw i]; exact kpt_is RMw.1 VMw.2.2.1 hi
  have vg : Mw.1 285 g 0 = M.1 285 g 0 := by
    have ng : fm_is N1 90 90 g = true := by rw [← V1.2.2.2.2.1]; exact tN_288 T1.1 n1
    rw [congrFun (kf (f := 285) kMw rfl (by decide) (wf_lt W1 (fm_ist rfl ng))).1 0, f1.2.1 _ _ _ (fun q => by omega)]
  -- everything behind a change of that place alone
  have back : ∀ N, FrP (kpt t i M) Mw N → Ty N → KeC t r g (B + 1) Vv N K F T i → TrC t r g B Vv M K F T rt tb o.2.1 N := by
    intro N fP TN kei
    have QN := frP_q fP nkw TN RMw
    have VN := frP_V fP QN.1 VMw
    have evo : Evo r 1 M N := evo_q' (evo_q Q1 vMw) QN
    have ekn : ∀ j, kpt t j N = kpt t j M := fun j => by unfold kpt; rw [fP.1]; exact ekw j
    have vn : N.1 285 g 0 = M.1 285 g 0 := by rw [fP.2.1 _ _ _ (fun q => by omega)]; exact vg
    refine ⟨VN, fun j l hj hl => ?_, fun j hj => ?_, vn, N1, Q1, by rw [hMw]; exact QN⟩
    · rw [ekn, ekn, fP.1, ((keep j hj).1 278 (by decide) (by decide)).2.2, ((keep l hl).1 278 (by decide) (by decide)).2.2, ((keep j hj).1 279 (by decide) (by decide)).2.2, ((keep l hl).1 279 (by decide) (by decide)).2.2]
      exact St j l hj hl
    · by_cases q : j = i
      · rw [q]
        exact kei
      · have nek : kpt t j M ≠ kpt t i M := fun z => q ((St j i hj hi).1 z)
        have ne8 : M.2.2 278 (kpt t j M) 0 ≠ M.2.2 278 (kpt t i M) 0 := fun z => q ((St j i hj hi).2.1 z)
        have ne9 : M.2.2 279 (kpt t j M) 0 ≠ M.2.2 279 (kpt t i M) 0 := fun z => q ((St j i hj hi).2.2 z)
        have W := V.1.2.1
        have n8 := tN_278 V.1.1.1 (nkj j hj)
        have n9 := tN_279 V.1.1.1 (nkj j hj)
        have ne89 := sf_ne W (sS_278 W (nkj j hj)) (sS_279 W nk) (lo := 902) rfl n8 (by decide)
        have ne98 := sf_ne W (sS_279 W (nkj j hj)) (sS_278 W nk) (lo := 902) rfl n9 (by decide)
        have e8 := ((keep i hi).1 278 (by decide) (by decide)).2.2
        have e9 := ((keep i hi).1 279 (by decide) (by decide)).2.2
        refine ke_tr (c := 1) ⟨ekn j, fun f h1 h2 => ?_, ?_, ?_, fun x => ⟨?_, ?_⟩⟩ vn evo V.1 QN.1 (Ke j hj)
        · rw [fP.2.1 _ _ _ (fun z => nek z.1), fP.2.2 _ _ _ (fun z => z.elim (fun z => nek z.1) (fun z => by omega))]
          obtain ⟨q1, q2, _⟩ := (keep j hj).1 f h1 (by omega)
          exact ⟨q1, q2⟩
        · rw [fP.1]
          exact ((keep j hj).1 278 (by decide) (by decide)).2.2
        · rw [fP.1]
          exact ((keep j hj).1 279 (by decide) (by decide)).2.2
        · rw [fP.2.2 _ _ _ (fun z => z.elim (fun z => by omega) (fun z => by rw [e8, e9] at z; exact z.2.elim ne8 ne89))]
          exact ((keep j hj).2 x).1
        · rw [fP.2.2 _ _ _ (fun z => z.elim (fun z => by omega) (fun z => by rw [e8, e9] at z; exact z.2.elim ne98 ne9))]
          exact ((keep j hj).2 x).2
  have H : HX84_translate_155 t a ac md (a >>> ((Int32.ofInt 12).toInt64 &&& 63)) (kpt t i M) M := ⟨w1, trivial⟩
  unfold GX84_translate_155
  rw [w2]
  dsimp only
  cases h1 : o.1 with
  | inl f =>
    have hv : wval o (ul a % 4096) = f := by unfold wval; rw [h1]
    have neg : lg_cmp f (Int64.ofInt 0) < 0 := by
      rcases oL f h1 with z | z
      · rw [z]; exact acF_n ac
      · rw [z]; exact pgF_n ac
    rw [hv, fi_pos neg, g179_0]
    have gT := (gX84_translate_179 (FX84_translate_L267 fN fN) t a ac md (a >>> ((Int32.ofInt 12).toInt64 &&& 63)) (kpt t i M) f (kpt t i M) (Int32.ofInt 0) Mw RMw.1 nkw fz_0 nkw VMw.2.2.1).2
    rw [g179_0] at gT
    have gT' : OkR Mw (f, fm_sI Mw 269 (kpt t i M) 0 (Int32.ofInt 0)) := gT
    have fP : FrP (kpt t i M) Mw (fm_sI Mw 269 (kpt t i M) 0 (Int32.ofInt 0)) := ⟨rfl, fun g b j z => if_neg (fun q => z ⟨q.2.1, by omega, by omega⟩), fun _ _ _ _ => rfl⟩
    refine ⟨_, H, rfl, ⟨gT'.1, ext_tr oOkV.2 gT'.2⟩, back _ fP gT'.1 (fun hn => absurd ?_ hn)⟩
    show (fm_sI Mw 269 (kpt t i M) 0 (Int32.ofInt 0)).1 269 (kpt t i (fm_sI Mw 269 (kpt t i M) 0 (Int32.ofInt 0))) 0 = 0
    have : kpt t i (fm_sI Mw 269 (kpt t i M) 0 (Int32.ofInt 0)) = kpt t i M := ekw i
    rw [this, rI, if_pos ⟨rfl, rfl, rfl⟩]
    rfl
  | inr b =>
    obtain ⟨b1, b2⟩ := oB b h1
    have lw := low_lt a
    have hv : wval o (ul a % 4096) = lN (b + ul a % 4096) := by unfold wval; rw [h1]
    have nneg : ¬ lg_cmp (lN (b + ul a % 4096)) (Int64.ofInt 0) < 0 := fun q => by
      rw [neg_l, l_big (by omega)] at q
      omega
    have esub : lN (b + ul a % 4096) - lN (ul a % 4096) = lN b := by
      rw [l_s (by omega) (by omega), Nat.add_sub_cancel]
    rw [hv, fi_neg nneg, g179_1 VMw, esub]
    have gT := (gX84_translate_179 (FX84_translate_L267 fN fN) t a ac md (a >>> ((Int32.ofInt 12).toInt64 &&& 63)) (kpt t i M) (lN (b + ul a % 4096)) (kpt t i M) (Int32.ofInt 1) Mw RMw.1 nkw fz_1 nkw VMw.2.2.1).2
    rw [g179_1 VMw, esub] at gT
    obtain ⟨d1, d2⟩ := w4 ⟨b, h1⟩
    have e294 : Mw.1 294 t 0 = nI o.2.2.length := (congrFun (kf (f := 294) kMw rfl (by decide) lt).1 0).trans d1
    rw [e294] at gT ⊢
    have n295 := tN_295 T1.1 n1
    have e295 : Mw.2.2 295 t 0 = M.2.2 295 t 0 := (congrFun (kf (f := 295) kMw rfl (by decide) lt).2.2 0).trans (by rw [f1.1])
    have k295 := (ka kMw (sS_295 W1 n1) (wf_n0 W1 (fm_ist rfl n295)) (by decide) (wf_lt W1 (fm_ist rfl n295))).2.1
    rw [f1.1] at k295
    have fX := ks_f (k := kpt t i M) (pg := a >>> ((Int32.ofInt 12).toInt64 &&& 63)) (ac := ac) (md := md) (tb := tb) (rt := rt) (ver := Mw.1 285 g 0) (b := lN b) (n := nI o.2.2.length) (X := Mw)
    have rX := ks_r (k := kpt t i M) (pg := a >>> ((Int32.ofInt 12).toInt64 &&& 63)) (ac := ac) (md := md) (tb := tb) (rt := rt) (ver := Mw.1 285 g 0) (b := lN b) (n := nI o.2.2.length) (X := Mw)
    have gT' : OkV Mw (ksM (kpt t i M) (a >>> ((Int32.ofInt 12).toInt64 &&& 63)) ac md tb rt (Mw.1 285 g 0) (lN b) (nI o.2.2.length) Mw) := gT
    generalize ksM (kpt t i M) (a >>> ((Int32.ofInt 12).toInt64 &&& 63)) ac md tb rt (Mw.1 285 g 0) (lN b) (nI o.2.2.length) Mw = Xk at *
    have QX := frP_q fX nkw gT'.1 RMw
    have VX := frP_V fX QX.1 VMw
    have nkX : fm_is Xk 88 88 (kpt t i M) = true := ext_is gT'.2 (by decide) nkw
    have W := V.1.2.1
    have n8 := tN_278 V.1.1.1 nk
    have n9 := tN_279 V.1.1.1 nk
    have ne8t := sf_ne W (sS_278 W nk) (sS_295 W V.2.2.1) (lo := 902) rfl n8 (by decide)
    have ne9t := sf_ne W (sS_279 W nk) (sS_295 W V.2.2.1) (lo := 902) rfl n9 (by decide)
    have e8 := ((keep i hi).1 278 (by decide) (by decide)).2.2
    have e9 := ((keep i hi).1 279 (by decide) (by decide)).2.2
    have hX294 : Xk.1 294 t 0 = nI o.2.2.length := (fX.2.1 _ _ _ (fun q => by omega)).trans e294
    have hXtr : ∀ j, j < o.2.2.length → Xk.2.1 3 (Xk.2.2 295 t 0) j = lN (o.2.2.getD j 0) := fun j hj => by
      rw [fX.1, e295, fX.2.2 _ _ _ (fun z => z.elim (fun z => by omega) (fun z => by rw [e8, e9] at z; exact z.2.elim (fun y => ne8t y.symm) (fun y => ne9t y.symm))), congrFun k295 j]
      exact d2 j hj
    obtain ⟨N, L1, L2, L3⟩ := tr_loop (p := lN (b + ul a % 4096)) VX nkX o8.1 okx hX294 hXtr o.2.2.length 0 fN (Nat.zero_add _) (by have := o8.1; unfold fN; omega) Xk ⟨rfl, rfl, fun _ _ _ _ => rfl⟩ (fun j hj => absurd hj (Nat.not_lt_zero j))
    have TN : Ty N := ty_eq L2.1 L2.2.1 gT'.1
    have fN' : FrP (kpt t i M) Mw N := frP_t fX (frA_P L2)
    have QN := frP_q fN' nkw TN RMw
    refine ⟨N, H, L1, ⟨TN, ext_tr oOkV.2 (ext_tr gT'.2 (fun c _ => by rw [L2.2.1]; exact ⟨rfl, rfl⟩))⟩, back N fN' TN ?_⟩
    intro _
    have ekn : kpt t i N = kpt t i M := by unfold kpt; rw [fN'.1]; exact ekw i
    rw [ekn]
    obtain ⟨x1, x2, x3, x4, x5, x6, x7, x8, x9⟩ := rX
    have rd2 : ∀ f, 269 ≤ f → f ≤ 277 → N.2.1 f (kpt t i M) 0 = Xk.2.1 f (kpt t i M) 0 := fun f h1 h2 => L2.2.2 _ _ _ (fun z => by omega)
    refine ⟨0, Nat.zero_le _, ?_, fun _ => ⟨o.2.2, fun _ => 0, o8.1, ?_, okx, fun j hj => ?_, fun _ a' ha' => ⟨b, ?_, ?_⟩⟩⟩
    · rw [fN'.2.1 _ _ _ (fun q => by omega), L2.1, x7]
      exact (Int32.add_zero _).symm
    · rw [L2.1, x9]
    · obtain ⟨y1, y2⟩ := L3 j hj
      rw [L2.2.1, y1, y2, QN.2.2.2.2.1, ← QX.2.2.2.2.1]
      exact ⟨rfl, Nat.zero_le _, (Int64.add_zero _).symm⟩
    · rw [rd2 276 (by decide) (by decide), x8]
    · rw [rd2 270 (by decide) (by decide), x2] at ha'
      rw [L2.1, x6, x3, x4, rd2 273 (by decide) (by decide), x5, wlk0_pg ha', ← oA b h1]
      -- the words behind the write
      have lo : ∀ x, x ∈ o.2.2 → ldC r N x = lwr o.2.1 (ldC r M) x := fun x hx => by
        obtain ⟨z1, z2, z3⟩ := okx x hx
        rw [ldC_s RMw QN.1 QN.2.2.2.1 z2, lMw x z1 z2 z3]
        unfold lwr
        rw [ldC_s V.1 V1.1 Q1.2.2.2.1 z2]
      have := wlk0_c (ld := lwr o.2.1 (ldC r M)) (ld' := ldC r N) (okL := okLw F T K) (okS := okSw F T K) (rt := rt) (ac := ac) (md := md) (a := a) (tb := tb)
      rw [oA b h1] at this
      rw [oA b h1]
      exact this lo
end Tl
