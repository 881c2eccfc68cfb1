/-! walks: what is kept of walks -/
set_option maxRecDepth 100000
abbrev kpt (t i : Nat) (M : FM) : Nat := M.2.2 3 (M.2.2 291 t 0) i
def StK (t : Nat) (M : FM) : Prop := ∀ i j, i < 64 → j < 64 → (kpt t i M = kpt t j M → i = j) ∧ (M.2.2 278 (kpt t i M) 0 = M.2.2 278 (kpt t j M) 0 → i = j) ∧ (M.2.2 279 (kpt t i M) 0 = M.2.2 279 (kpt t j M) 0 → i = j)
/-- one place of what is kept: B bounds how often a page was written since, Vv how often the regions changed since -/
def KeC (t r g B Vv : Nat) (M : FM) (K : Rg) (F T : Nat → Nat) (i : Nat) : Prop := ¬ M.1 269 (kpt t i M) 0 = 0 →
  ∃ d, d ≤ Vv ∧ M.1 285 g 0 = M.1 275 (kpt t i M) 0 + nI d ∧ (d = 0 →
    ∃ (es : List Nat) (D : Nat → Nat), es.length ≤ 4 ∧ M.1 277 (kpt t i M) 0 = nI es.length ∧ (∀ x, x ∈ es → x < 2 ^ 57 ∧ okR x ∧ x % 8 = 0) ∧
      (∀ j, j < es.length → M.2.1 3 (M.2.2 278 (kpt t i M) 0) j = lN (es.getD j 0) ∧ D j ≤ B ∧ cwr M r (pgn (es.getD j 0)) = M.2.1 3 (M.2.2 279 (kpt t i M) 0) j + lN (D j)) ∧
      ((∀ j, j < es.length → D j = 0) → ∀ a : Int64, a >>> ((Int32.ofInt 12).toInt64 &&& 63) = M.2.1 270 (kpt t i M) 0 → ∃ b, M.2.1 276 (kpt t i M) 0 = lN b ∧
        wlk0 (ldC r M) (okLw F T K) (okSw F T K) (M.1 274 (kpt t i M) 0) (M.1 271 (kpt t i M) 0) (M.1 272 (kpt t i M) 0) a (M.2.1 273 (kpt t i M) 0) = (.inr b, none, es)))
theorem getD_m {es : List Nat} {j : Nat} (h : j < es.length) : es.getD j 0 ∈ es := by
  rw [List.getD_eq_getElem?_getD, List.getElem?_eq_getElem h]
  exact List.getElem_mem h
section Kt
variable {t r g B Vv c i : Nat} {M N : FM} {K K' : Rg} {F T F' T' : Nat → Nat}
/-- the place's own things stay -/
def KeS (t i : Nat) (M N : FM) : Prop := kpt t i N = kpt t i M ∧ (∀ f, 269 ≤ f → f ≤ 277 → N.1 f (kpt t i M) 0 = M.1 f (kpt t i M) 0 ∧ N.2.1 f (kpt t i M) 0 = M.2.1 f (kpt t i M) 0) ∧ N.2.2 278 (kpt t i M) 0 = M.2.2 278 (kpt t i M) 0 ∧ N.2.2 279 (kpt t i M) 0 = M.2.2 279 (kpt t i M) 0 ∧
  ∀ j, N.2.1 3 (M.2.2 278 (kpt t i M) 0) j = M.2.1 3 (M.2.2 278 (kpt t i M) 0) j ∧ N.2.1 3 (M.2.2 279 (kpt t i M) 0) j = M.2.1 3 (M.2.2 279 (kpt t i M) 0) j
theorem ke_tr (S : KeS t i M N) (hv : N.1 285 g 0 = M.1 285 g 0) (E : Evo r c M N) (R : RamI r M) (R' : RamI r N) (h : KeC t r g B Vv M K F T i) : KeC t r g (B + c) Vv N K F T i := by
  obtain ⟨s1, s2, s3, s4, s5⟩ := S
  intro hn
  unfold KeC at h
  generalize hk : kpt t i M = k at *
  rw [s1] at hn ⊢
  rw [(s2 269 (by decide) (by decide)).1] at hn
  obtain ⟨d, d1, d2, d3⟩ := h hn
  refine ⟨d, d1, by rw [hv, (s2 275 (by decide) (by decide)).1]; exact d2, fun hd => ?_⟩
  obtain ⟨es, D, e1, e2, e3, e4, e5⟩ := d3 hd
  have E' : ∀ p, ∃ d, p < 1024 → d ≤ c ∧ cwr N r p = cwr M r p + lN d ∧ (d = 0 → ∀ i, i / 32768 = p → cmb N r i = cmb M r i) := fun p => by
    by_cases hp : p < 1024
    · obtain ⟨d, q⟩ := E p hp
      exact ⟨d, fun _ => q⟩
    · exact ⟨0, fun q => absurd q hp⟩
  obtain ⟨f, hf⟩ := Classical.skolem.mp E'
  have pg : ∀ x, x ∈ es → x < 18446744073709551616 ∧ okR x ∧ x % 8 = 0 ∧ pgn x < 1024 := fun x hx => by
    obtain ⟨x1, x2, x3⟩ := e3 x hx
    have p57 : (2 : Nat) ^ 57 = 144115188075855872 := by decide
    exact ⟨by omega, x2, x3, (okR_x (by omega) x2).2.2⟩
  refine ⟨es, fun j => D j + f (pgn (es.getD j 0)), e1, by rw [(s2 277 (by decide) (by decide)).1]; exact e2, e3, fun j hj => ?_, fun hz a ha => ?_⟩
  · obtain ⟨q1, q2, q3⟩ := e4 j hj
    obtain ⟨p1, p2, _⟩ := hf _ (pg _ (getD_m hj)).2.2.2
    rw [s3, s4, (s5 j).1, (s5 j).2]
    refine ⟨q1, Nat.add_le_add q2 p1, ?_⟩
    rw [p2, q3, Int64.add_assoc, lN_a]
  · rw [(s2 270 (by decide) (by decide)).2] at ha
    obtain ⟨b, b1, b2⟩ := e5 (fun j hj => by have : D j + f (pgn (es.getD j 0)) = 0 := hz j hj; omega) a ha
    rw [(s2 276 (by decide) (by decide)).2, (s2 274 (by decide) (by decide)).1, (s2 271 (by decide) (by decide)).1, (s2 272 (by decide) (by decide)).1, (s2 273 (by decide) (by decide)).2]
    refine ⟨b, b1, ?_⟩
    rw [← b2]
    refine wlk0_c (fun x hx => ?_)
    rw [b2] at hx
    obtain ⟨j, hj, ej⟩ := List.getElem_of_mem hx
    have ed : es.getD j 0 = x := by rw [List.getD_eq_getElem?_getD, List.getElem?_eq_getElem hj]; exact ej
    obtain ⟨x1, x2, x3, x4⟩ := pg x hx
    obtain ⟨_, _, p3⟩ := hf (pgn x) x4
    have : D j + f (pgn (es.getD j 0)) = 0 := hz j hj
    rw [ed] at this
    exact ldC_p R R' x1 x2 x3 (p3 (by omega))
theorem ke_ver (S : KeS t i M N) (hv : N.1 285 g 0 = M.1 285 g 0 + Int32.ofInt 1) (h : KeC t r g B Vv M K F T i) : KeC t r g B (Vv + 1) N K' F' T' i := by
  obtain ⟨s1, s2, s3, s4, s5⟩ := S
  intro hn
  unfold KeC at h
  generalize hk : kpt t i M = k at *
  rw [s1] at hn ⊢
  rw [(s2 269 (by decide) (by decide)).1] at hn
  obtain ⟨d, d1, d2, d3⟩ := h hn
  refine ⟨d + 1, by omega, ?_, fun q => by omega⟩
  rw [hv, (s2 275 (by decide) (by decide)).1, d2, Int32.add_assoc]
  exact congrArg _ nI_a
theorem ke_w {B' V' : Nat} (hB : B ≤ B') (hV : Vv ≤ V') (h : KeC t r g B Vv M K F T i) : KeC t r g B' V' M K F T i := fun hn => by
  obtain ⟨d, d1, d2, d3⟩ := h hn
  refine ⟨d, by omega, d2, fun hd => ?_⟩
  obtain ⟨es, D, e1, e2, e3, e4, e5⟩ := d3 hd
  exact ⟨es, D, e1, e2, e3, fun j hj => by obtain ⟨q1, q2, q3⟩ := e4 j hj; exact ⟨q1, by omega, q3⟩, e5⟩
end Kt
section Hd
variable {r k y : Nat} {M : FM} {es : List Nat}
theorem holds_L (R : RamI r M) (n : fm_is M 88 88 k = true) (ny : fm_is M 81 81 y = true) (hr : M.2.2 247 y 0 = r) (h4 : es.length ≤ 4) (hd : M.1 277 k 0 = nI es.length) (he : ∀ j, j < es.length → M.2.1 3 (M.2.2 278 k 0) j = lN (es.getD j 0)) (ok : ∀ x, x ∈ es → x < 2 ^ 57 ∧ okR x ∧ x % 8 = 0) :
    ∀ m i J, i + m = es.length → m < J → FX88_holds_L2 fN J k y (nI i) M = some (bz (∀ j, i ≤ j → j < es.length → cwr M r (pgn (es.getD j 0)) = M.2.1 3 (M.2.2 279 k 0) j), M) := by
  have p57 : (2 : Nat) ^ 57 = 144115188075855872 := by decide
  intro m
  induction m with
  | zero =>
    intro i J hi hJ
    obtain ⟨J, rfl⟩ : ∃ x, J = x + 1 := ⟨J - 1, by omega⟩
    show FX88_holds_2 fN (FX88_holds_L2 fN J) k y (nI i) M = _
    have le : M.1 277 k 0 ≤ nI i := by
      rw [hd, i_le (by rw [ui_nI]; omega) (by rw [ui_nI]; omega), ui_nI, ui_nI]
      omega
    rw [(gX88_holds_2 (FX88_holds_L2 fN J) k y (nI i) M R.1 n ny ⟨fun _ => trivial, fun q => absurd le q⟩).1]
    unfold GX88_holds_2
    rw [fi_pos le, bz_t (fun j h1 h2 => by omega)]
    rfl
  | succ m ih =>
    intro i J hi hJ
    obtain ⟨J, rfl⟩ : ∃ x, J = x + 1 := ⟨J - 1, by omega⟩
    have hl : i < es.length := by omega
    have nle : ¬ M.1 277 k 0 ≤ nI i := by
      rw [hd, i_le (by rw [ui_nI]; omega) (by rw [ui_nI]; omega), ui_nI, ui_nI]
      omega
    have gm := getD_m hl
    obtain ⟨x1, x2, x3⟩ := ok _ gm
    obtain ⟨w1, w2⟩ := X85_writes (y := y) hr R (show es.getD i 0 < 18446744073709551616 by omega) x2
    have ec : (nI i).toNatClampNeg = i := o_cl (by omega)
    have i1 : fm_in M (M.2.2 278 k 0) (nI i) = true := in_nI (tL_278 R.1.1 n) (by omega) (by decide)
    have i2 : fm_in M (M.2.2 279 k 0) (nI i) = true := in_nI (tL_279 R.1.1 n) (by omega) (by decide)
    show FX88_holds_2 fN (FX88_holds_L2 fN J) k y (nI i) M = _
    have hH : HX88_holds_2 k y (nI i) M := by
      refine ⟨fun q => absurd q nle, fun _ => ?_⟩
      dsimp only
      rw [ec, he i hl, w2]
      exact ⟨i1, w1, i2, trivial⟩
    rw [(gX88_holds_2 (FX88_holds_L2 fN J) k y (nI i) M R.1 n ny hH).1]
    unfold GX88_holds_2
    rw [fi_neg nle]
    dsimp only
    rw [ec, he i hl, w2]
    dsimp only
    rw [lg_cmp_eq]
    by_cases q : cwr M r (pgn (es.getD i 0)) = M.2.1 3 (M.2.2 279 k 0) i
    · rw [fi_pos q, up_1 (by omega)]
      show FX88_holds_L2 fN J k y (nI (i + 1)) M = _
      rw [ih (i + 1) J (by omega) (by omega)]
      refine congrArg (fun z => some (z, M)) (bz_c ⟨fun z j h1 h2 => ?_, fun z j h1 h2 => z j (by omega) h2⟩)
      rcases Nat.lt_or_ge i j with h | h
      · exact z j h h2
      · rw [show j = i by omega]
        exact q
    · rw [fi_neg q, bz_f (fun z => q (z i (Nat.le_refl _) hl))]
      rfl
theorem X88_holds (R : RamI r M) (n : fm_is M 88 88 k = true) (ny : fm_is M 81 81 y = true) (hr : M.2.2 247 y 0 = r) (h4 : es.length ≤ 4) (hd : M.1 277 k 0 = nI es.length) (he : ∀ j, j < es.length → M.2.1 3 (M.2.2 278 k 0) j = lN (es.getD j 0)) (ok : ∀ x, x ∈ es → x < 2 ^ 57 ∧ okR x ∧ x % 8 = 0) :
    HX88_holds k y M ∧ GX88_holds k y M = (bz (∀ j, j < es.length → cwr M r (pgn (es.getD j 0)) = M.2.1 3 (M.2.2 279 k 0) j), M) := by
  have h := holds_L R n ny hr h4 hd he ok es.length 0 fN (Nat.zero_add _) (by unfold fN; omega)
  have e : FX88_holds fN k y M = some (bz (∀ j, j < es.length → cwr M r (pgn (es.getD j 0)) = M.2.1 3 (M.2.2 279 k 0) j), M) := by
    show FX88_holds_0 fN (FX88_holds_L2 fN fN) k y M = _
    rw [(gX88_holds_0 (FX88_holds_L2 fN fN) k y M R.1).1]
    refine h.trans (congrArg (fun z => some (z, M)) (bz_c ⟨fun z j hj => z j (Nat.zero_le _) hj, fun z j _ hj => z j hj⟩))
  exact op_of e ⟨R.1, ext_r M, bz_z _⟩
end Hd
/-- what the component's memory keeps where its RAM is written -/
abbrev SfR : Nat → Prop := fun x => fe_mem lX11_store x = true
section Wk2
variable {r t g : Nat} {M N : FM} {K : Rg} {F T : Nat → Nat} {rt : Int32} {tb : Int64}
theorem wrC_k (R : RamI r M) {o : Option (Nat × Int64)} (ho : ∀ q, o = some q → q.1 < 2 ^ 57 ∧ okR q.1 ∧ q.1 % 8 = 0) : RamI r (wrC r o M) ∧ Wk SfR (fun _ => True) 0 (fm_nx M) M (wrC r o M) ∧ Ext M (wrC r o M) ∧ Evo r 1 M (wrC r o M) ∧
    ∀ x, x < 2 ^ 57 → okR x → x % 8 = 0 → ldC r (wrC r o M) x = lwr o (ldC r M) x := by
  have p57 : (2 : Nat) ^ 57 = 144115188075855872 := by decide
  cases o with
  | none => exact ⟨R, wk_r (wi_N R.2.1), ext_r M, evo_w (evo_r r 0 M) (Nat.zero_le _), fun x _ _ _ => rfl⟩
  | some q =>
    obtain ⟨q1, q2, q3⟩ := ho q rfl
    have ox := okR_x (by omega) q2
    obtain ⟨o, h1, h2⟩ := okR_o q2
    obtain ⟨a1, a2, a3⟩ := X11_store R h1 (sz := Int32.ofInt 8) (s := 8) rfl (by decide) (by decide) h2 q.2
    have k := wX11_store SfR (fun _ => True) (fun _ h => h) fN r (lN q.1) (Int32.ofInt 8) q.2 M (wi_N R.2.1) trivial _ (gX11_store _ _ _ _ _ R.1 R.2.2.1 a1).1
    have ev := evo_st (by decide) (by decide) h2 a3
    rw [← a2] at a3 ev
    have eo : o = q.1 - 2147483648 := by rw [l_big (by omega)] at h1; omega
    rw [eo] at a3
    exact ⟨a3.1, k, a3.2.1, ev, fun x x1 x2 x3 => ldC_st R (by omega) x2 x3 (by omega) q2 q3 a3⟩
theorem wtC_k (k : Wk SfR (fun _ => True) 0 (fm_nx M) M N) (RN : RamI r N) (V : WtC t r g M K rt tb) : WtC t r g N K rt tb := by
  obtain ⟨R, m2, n, hr, hg, vg, fa, ht, hrt⟩ := V
  have W := R.2.1
  have T := R.1
  have ng : fm_is M 90 90 g = true := by rw [← hg]; exact tN_288 T.1 n
  have lt : t < fm_nx M := wf_lt W (fm_ist rfl n)
  have ly : M.2.2 287 t 0 < fm_nx M := wf_lt W (fm_ist rfl (tN_287 T.1 n))
  have lr : r < fm_nx M := wf_lt W (fm_ist rfl R.2.2.1)
  have lg : g < fm_nx M := wf_lt W (fm_ist rfl ng)
  have n284 := tN_284 T.1 ng
  have l284 := wf_lt W (fm_ist rfl n284)
  have n286 := tN_286 T.1 n
  have l286 := wf_lt W (fm_ist rfl n286)
  have e := fun f (hf : Nat.ble 4 f = true) (hs : ¬ SfR f) => kf (f := f) (a := t) k hf hs lt
  have eg284 : N.2.2 284 g 0 = M.2.2 284 g 0 := congrFun (kf (f := 284) k rfl (by decide) lg).2.2 0
  have ergn : ∀ i, rgn g i N = rgn g i M := fun i => by
    unfold rgn
    rw [eg284]
    exact congrFun (ka k (sS_284 W ng) (wf_n0 W (fm_ist rfl n284)) (by decide) l284).2.2 i
  have nr : ∀ i, i < 8 → fm_is M 89 89 (rgn g i M) = true := fun i hi => by
    have := tE_927 (i := nI i) T.1 n284 (in_nI (tL_284 T.1 ng) hi (by decide))
    rw [o_cl (by omega)] at this
    exact this
  refine ⟨RN, (congrFun (kf (f := 202) k rfl (by decide) lr).1 0).trans m2, kis k W rfl n, ?_, (congrFun (e 288 rfl (by decide)).2.2 0).trans hg, fun i hi => ?_, fun i hi => ?_, (congrFun (e 289 rfl (by decide)).2.1 0).trans ht, (congrFun (e 290 rfl (by decide)).1 0).trans hrt⟩
  · rw [(congrFun (e 287 rfl (by decide)).2.2 0)]
    exact (congrFun (kf (f := 247) k rfl (by decide) ly).2.2 0).trans hr
  · have li : rgn g i M < fm_nx M := wf_lt W (fm_ist rfl (nr i hi))
    rw [ergn, congrFun (kf (f := 280) k rfl (by decide) li).1 0, congrFun (kf (f := 281) k rfl (by decide) li).2.1 0, congrFun (kf (f := 282) k rfl (by decide) li).2.1 0, congrFun (kf (f := 283) k rfl (by decide) li).2.1 0]
    exact vg i hi
  · have e286 := congrFun (e 286 rfl (by decide)).2.2 0
    have er : N.2.2 3 (M.2.2 286 t 0) i = M.2.2 3 (M.2.2 286 t 0) i := congrFun (ka k (sS_286 W n) (wf_n0 W (fm_ist rfl n286)) (by decide) l286).2.2 i
    obtain ⟨f1, f2, f3, f4⟩ := fa i hi
    have nrow : fm_is M 901 901 (M.2.2 3 (M.2.2 286 t 0) i) = true := by
      have := tE_933 (i := nI i) T.1 n286 (in_nI (tL_286 T.1 n) hi (by decide))
      rw [o_cl (by omega)] at this
      exact this
    have trow := fm_ist rfl nrow
    have lrow := wf_lt W trow
    obtain ⟨k1, k2⟩ := kt k lrow
    have ki := (ka (s := 8) k (Or.inr ⟨trow, f4⟩) (wf_n0 W trow) (by decide) lrow).1
    rw [e286, er, k1, k2, ki]
    exact ⟨f1, f2, f3, f4⟩
end Wk2
