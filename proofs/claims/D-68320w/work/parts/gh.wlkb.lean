/-! walks: the component finds; both sides find the same -/
set_option maxRecDepth 100000
section Tf
variable {t r g : Nat} {M : FM} {K : Rg} {F T : Nat → Nat} {rt ac md : Int32} {a tb p : Int64} {B Vv s : Nat}
theorem n_add0 {x : Int32} {d : Nat} (hd : d < 2147483648) (h : x = x + nI d) : d = 0 := by
  have := congrArg ui h
  rw [ui_add, ui_nI] at this
  have := ui_lt x
  omega
theorem l_add0 {x : Int64} {d : Nat} (hd : d < 9223372036854775808) : x + lN d = x ↔ d = 0 := by
  constructor
  · intro h
    have := congrArg ul h
    rw [ul_add, ul_lN] at this
    have := ul_lt x
    omega
  · intro h
    rw [h]
    exact Int64.add_zero _
theorem or_low {b : Nat} (a : Int64) (hb : b % 4096 = 0) (hb2 : b + 4096 ≤ 2 ^ 57) : lN b ||| lN (ul a % 4096) = lN (b + ul a % 4096) := by
  have p57 : (2 : Nat) ^ 57 = 144115188075855872 := by decide
  have lw := low_lt a
  apply ul_inj
  rw [ul_or, l_big (by omega), l_big (by omega), l_big (by omega)]
  have e : b = (b / 4096) <<< 12 := by rw [Nat.shiftLeft_eq]; omega
  rw [e, ← Nat.shiftLeft_add_eq_or_of_lt (show ul a % 4096 < 2 ^ 12 from lw)]
theorem X84_translate (V : WtC t r g M K rt tb) (I : VGi K) (C : covR K F T) (hac : acc3 ac) (St : StK t M) (Ke : ∀ j, j < 64 → KeC t r g B Vv M K F T j) (hB : B < 9223372036854775808) (hV : Vv < 2147483648) :
    ∃ N, HX84_translate t a ac md M ∧ GX84_translate t a ac md M = (wval (wlk0 (ldC r M) (okLw F T K) (okSw F T K) rt ac md a tb) (ul a % 4096), N) ∧ OkV M N ∧
      TrC t r g B Vv M K F T rt tb (wlk0 (ldC r M) (okLw F T K) (okSw F T K) rt ac md a tb).2.1 N := by
  obtain ⟨i, hi, ei⟩ : ∃ i, i < 64 ∧ ((((((a >>> ((Int32.ofInt 12).toInt64 &&& 63)) ^^^ ((a >>> ((Int32.ofInt 12).toInt64 &&& 63)) >>> ((Int32.ofInt 6).toInt64 &&& 63))) * (Int64.ofInt 5)) + (ac * (Int32.ofInt 3)).toInt64) + md.toInt64) &&& (Int64.ofInt 63)).toInt32 = nI i := by
    generalize ((((a >>> ((Int32.ofInt 12).toInt64 &&& 63)) ^^^ ((a >>> ((Int32.ofInt 12).toInt64 &&& 63)) >>> ((Int32.ofInt 6).toInt64 &&& 63))) * (Int64.ofInt 5)) + (ac * (Int32.ofInt 3)).toInt64) + md.toInt64 = v
    refine ⟨ul v % 64, Nat.mod_lt _ (by decide), ?_⟩
    have e : v &&& Int64.ofInt 63 = lN (ul v % 64) := by
      apply ul_inj
      rw [ul_and, show ul (Int64.ofInt 63) = 2 ^ 6 - 1 from rfl, Nat.and_two_pow_sub_one_eq_mod, l_big (by omega)]
    rw [e, o_32 (by omega)]
  have nk := kpt_is V.1.1 V.2.2.1 hi
  have i1 : fm_in M (M.2.2 291 t 0) (nI i) = true := in_nI (tL_291 V.1.1.1 V.2.2.1) hi (by decide)
  obtain ⟨N, m1, m2, m3, m4⟩ := tr_miss (a := a) (md := md) V I C hac hi St Ke
  have oB := fun b => wlk0_b (ld := ldC r M) (okL := okLw F T K) (okS := okSw F T K) (rt := rt) (ac := ac) (md := md) (a := a) (tb := tb) (b := b)
  have kei := Ke i hi
  unfold KeC at kei
  have V0 := V
  obtain ⟨R, h202, n, hr, hg, vg, fa, ht, hrt⟩ := V
  generalize hx1 : a >>> ((Int32.ofInt 12).toInt64 &&& 63) = x1 at *
  generalize hk : kpt t i M = k at *
  have nz0 : ¬ (Int32.ofInt 1 : Int32) = 0 := by decide
  -- the miss
  have h121 : HX84_translate_121 t a ac md x1 k M ∧ GX84_translate_121 t a ac md x1 k M = GX84_translate_155 t a ac md x1 k M := by
    unfold HX84_translate_121 GX84_translate_121 HX84_translate_122 GX84_translate_122
    rw [fi_pos (show Int32.ofInt 0 = 0 from rfl)]
    exact ⟨⟨fun _ => m1, fun q => absurd rfl q⟩, rfl⟩
  have fin1 : ∀ (G : (Nat × Nat × Int64 × Int32 × FM) ⊕ (Int64 × FM)), HX84_translate_0 t a ac md M → GX84_translate_0 t a ac md M = G → ∀ N', kX84_translate (FX84_translate_L267 fN fN) G = some (wval (wlk0 (ldC r M) (okLw F T K) (okSw F T K) rt ac md a tb) (ul a % 4096), N') → OkV M N' →
      HX84_translate t a ac md M ∧ GX84_translate t a ac md M = (wval (wlk0 (ldC r M) (okLw F T K) (okSw F T K) rt ac md a tb) (ul a % 4096), N') := fun G h0 hG N' hk' hO => by
    have G0 : FX84_translate fN t a ac md M = _ := (gX84_translate_0 (FX84_translate_L267 fN fN) t a ac md M R.1 n h0).1
    rw [hG] at G0
    exact op_of (d := ((0 : Int64), M)) (G0.trans hk') (P := OkR M) hO
  have e0 : M.2.2 3 (M.2.2 291 t 0) i = k := hk
  by_cases hS : ¬ M.1 269 k 0 = 0 ∧ M.2.1 270 k 0 = x1 ∧ M.1 271 k 0 = ac ∧ M.1 272 k 0 = md ∧ M.2.1 273 k 0 = tb ∧ M.1 274 k 0 = rt ∧ M.1 275 k 0 = M.1 285 g 0
  · obtain ⟨s1, s2, s3, s4, s5, s6, s7⟩ := hS
    obtain ⟨d, d1, d2, d3⟩ := kei s1
    have hd0 : d = 0 := n_add0 (x := M.1 275 k 0) (by omega) (by rw [← d2]; exact s7)
    obtain ⟨es, D, e1, e2, e3, e4, e5⟩ := d3 hd0
    obtain ⟨h1, h2⟩ := X88_holds (y := M.2.2 287 t 0) R nk (tN_287 R.1.1 n) hr e1 e2 (fun j hj => (e4 j hj).1) e3
    have hD : (∀ j, j < es.length → cwr M r (pgn (es.getD j 0)) = M.2.1 3 (M.2.2 279 k 0) j) ↔ ∀ j, j < es.length → D j = 0 := by
      constructor
      · intro z j hj
        have := z j hj
        rw [(e4 j hj).2.2] at this
        exact (l_add0 (by have := (e4 j hj).2.1; omega)).mp this
      · intro z j hj
        rw [(e4 j hj).2.2]
        exact (l_add0 (by have := (e4 j hj).2.1; omega)).mpr (z j hj)
    rw [propext hD] at h2
    have h122 : GX84_translate_122 t a ac md x1 k (Int32.ofInt 1) M = fi (∀ j, j < es.length → D j = 0) (.inr (M.2.1 276 k 0 ||| lN (ul a % 4096), M)) (GX84_translate_155 t a ac md x1 k M) := by
      unfold GX84_translate_122
      rw [fi_neg nz0, h2]
      dsimp only
      rw [fi_bz, bits12]
    have hh122 : HX84_translate_122 t a ac md x1 k (Int32.ofInt 1) M := by
      unfold HX84_translate_122
      rw [h2]
      exact ⟨fun q => absurd q nz0, fun _ => ⟨h1, fun _ => m1, fun _ => trivial⟩⟩
    have H0 : HX84_translate_0 t a ac md M := by
      unfold HX84_translate_0
      rw [hx1]
      dsimp only
      rw [ei, show (nI i).toNatClampNeg = i from o_cl (by omega), e0, hg]
      exact ⟨i1, fun q => absurd q s1, fun _ => ⟨fun _ => ⟨fun _ => ⟨fun _ => ⟨fun _ => ⟨fun _ => ⟨fun _ => hh122, fun _ => h121.1⟩, fun _ => h121.1⟩, fun _ => h121.1⟩, fun _ => h121.1⟩, fun _ => h121.1⟩, fun _ => h121.1⟩⟩
    have G0 : GX84_translate_0 t a ac md M = GX84_translate_122 t a ac md x1 k (Int32.ofInt 1) M := by
      unfold GX84_translate_0
      rw [hx1]
      dsimp only
      rw [ei, show (nI i).toNatClampNeg = i from o_cl (by omega), e0, hg, fi_neg s1, fi_pos ((lg_cmp_eq _ _).mpr s2), fi_pos s3, fi_pos s4, ht, fi_pos ((lg_cmp_eq _ _).mpr s5), hrt, fi_pos s6, fi_pos s7]
    rw [h122] at G0
    by_cases hz : ∀ j, j < es.length → D j = 0
    · rw [fi_pos hz] at G0
      obtain ⟨b, b1, b2⟩ := e5 hz a (by rw [hx1]; exact s2.symm)
      rw [s3, s4, s5, s6] at b2
      obtain ⟨c1, c2⟩ := oB b (by rw [b2])
      have ev : M.2.1 276 k 0 ||| lN (ul a % 4096) = wval (wlk0 (ldC r M) (okLw F T K) (okSw F T K) rt ac md a tb) (ul a % 4096) := by
        rw [b1, or_low a c1 c2, b2]
        rfl
      rw [ev] at G0
      obtain ⟨f1, f2⟩ := fin1 _ H0 G0 M rfl ⟨R.1, ext_r M⟩
      refine ⟨M, f1, f2, ⟨R.1, ext_r M⟩, V0, St, fun j hj => ke_w (Nat.le_succ _) (Nat.le_refl _) (Ke j hj), rfl, M, ramQ_r R, ?_⟩
      rw [b2]
      exact ramQ_r R
    · rw [fi_neg hz] at G0
      obtain ⟨f1, f2⟩ := fin1 _ H0 G0 N m2 m3
      exact ⟨N, f1, f2, m3, m4⟩
  · have H0 : HX84_translate_0 t a ac md M ∧ GX84_translate_0 t a ac md M = GX84_translate_155 t a ac md x1 k M := by
      unfold HX84_translate_0 GX84_translate_0
      rw [hx1]
      dsimp only
      rw [ei, show (nI i).toNatClampNeg = i from o_cl (by omega), e0, hg, ht, hrt, h121.2]
      by_cases s1 : M.1 269 k 0 = 0
      · rw [fi_pos s1]
        exact ⟨⟨i1, fun _ => h121.1, fun q => absurd s1 q⟩, rfl⟩
      · rw [fi_neg s1]
        by_cases s2 : lg_cmp (M.2.1 270 k 0) x1 = 0
        · rw [fi_pos s2]
          by_cases s3 : M.1 271 k 0 = ac
          · rw [fi_pos s3]
            by_cases s4 : M.1 272 k 0 = md
            · rw [fi_pos s4]
              by_cases s5 : lg_cmp (M.2.1 273 k 0) tb = 0
              · rw [fi_pos s5]
                by_cases s6 : M.1 274 k 0 = rt
                · rw [fi_pos s6]
                  have s7 : ¬ M.1 275 k 0 = M.1 285 g 0 := fun z => hS ⟨s1, (lg_cmp_eq _ _).mp s2, s3, s4, (lg_cmp_eq _ _).mp s5, s6, z⟩
                  rw [fi_neg s7]
                  exact ⟨⟨i1, fun q => absurd q s1, fun _ => ⟨fun _ => ⟨fun _ => ⟨fun _ => ⟨fun _ => ⟨fun _ => ⟨fun q => absurd q s7, fun _ => h121.1⟩, fun _ => h121.1⟩, fun _ => h121.1⟩, fun _ => h121.1⟩, fun _ => h121.1⟩, fun _ => h121.1⟩⟩, rfl⟩
                · rw [fi_neg s6]
                  exact ⟨⟨i1, fun q => absurd q s1, fun _ => ⟨fun _ => ⟨fun _ => ⟨fun _ => ⟨fun _ => ⟨fun q => absurd q s6, fun _ => h121.1⟩, fun _ => h121.1⟩, fun _ => h121.1⟩, fun _ => h121.1⟩, fun _ => h121.1⟩⟩, rfl⟩
              · rw [fi_neg s5]
                exact ⟨⟨i1, fun q => absurd q s1, fun _ => ⟨fun _ => ⟨fun _ => ⟨fun _ => ⟨fun q => absurd q s5, fun _ => h121.1⟩, fun _ => h121.1⟩, fun _ => h121.1⟩, fun _ => h121.1⟩⟩, rfl⟩
            · rw [fi_neg s4]
              exact ⟨⟨i1, fun q => absurd q s1, fun _ => ⟨fun _ => ⟨fun _ => ⟨fun q => absurd q s4, fun _ => h121.1⟩, fun _ => h121.1⟩, fun _ => h121.1⟩⟩, rfl⟩
          · rw [fi_neg s3]
            exact ⟨⟨i1, fun q => absurd q s1, fun _ => ⟨fun _ => ⟨fun q => absurd q s3, fun _ => h121.1⟩, fun _ => h121.1⟩⟩, rfl⟩
        · rw [fi_neg s2]
          exact ⟨⟨i1, fun q => absurd q s1, fun _ => ⟨fun q => absurd q s2, fun _ => h121.1⟩⟩, rfl⟩
    obtain ⟨f1, f2⟩ := fin1 _ H0.1 H0.2 N m2 m3
    exact ⟨N, f1, f2, m3, m4⟩
theorem find_55 (V : WtC t r g M K rt tb) (I : VGi K) (C : covR K F T) (hac : acc3 ac) (hs : 0 < s ∧ s < 4096) (hp : lg_cmp p (Int64.ofInt 0) < 0 ∨ ul p < 2 ^ 57) :
    HX84_find_55 t ac md (nI s) p M ∧ GX84_find_55 t ac md (nI s) p M = (finW F T K ac md s p, M) := by
  obtain ⟨R, h202, n, hr, hg, vg, fa, ht, hrt⟩ := V
  obtain ⟨⟨f1, f2⟩, _⟩ := X84_fault R.1 n fa hac
  unfold HX84_find_55 GX84_find_55 GX84_find_79 GX84_find_90 finW
  by_cases h : lg_cmp p (Int64.ofInt 0) < 0
  · exact ⟨⟨fun _ => trivial, fun q => absurd h q⟩, by rw [fi_pos h, fi_pos h]⟩
  · have hp2 : ul p < 2 ^ 57 := hp.resolve_left h
    obtain ⟨l1, l2⟩ := X86_let (ac := ac) (md := md) (s := s) R.1 (by rw [← hg]; exact tN_288 R.1.1 n) vg I C hp2 hs.2
    rw [lN_ul] at l1 l2
    rw [fi_neg h, fi_neg h]
    dsimp only
    rw [hg, l2]
    dsimp only
    rw [fi_bz, f2]
    refine ⟨⟨fun q => absurd q h, fun _ => ⟨l1, fun _ => ⟨f1, trivial⟩, fun _ => trivial⟩⟩, ?_⟩
    by_cases k : letS F T K.1 (ul p) s ac md 8 0
    · rw [fi_pos k, fi_pos k]
    · rw [fi_neg k, fi_neg k]
theorem X84_find (V : WtC t r g M K rt tb) (I : VGi K) (C : covR K F T) (hac : acc3 ac) (St : StK t M) (Ke : ∀ j, j < 64 → KeC t r g B Vv M K F T j) (hB : B < 9223372036854775808) (hV : Vv < 2147483648) (hs : 0 < s ∧ s < 4096) :
    ∃ N, HX84_find t a ac md (nI s) M ∧ GX84_find t a ac md (nI s) M = (finW F T K ac md s (wval (wfd (ldC r M) (okLw F T K) (okSw F T K) rt ac md a tb) (ul a % 4096)), N) ∧ OkV M N ∧
      TrC t r g B Vv M K F T rt tb (wfd (ldC r M) (okLw F T K) (okSw F T K) rt ac md a tb).2.1 N := by
  have V0 := V
  obtain ⟨R, h202, n, hr, hg, vg, fa, ht, hrt⟩ := V
  obtain ⟨⟨f1, f2⟩, _⟩ := X84_fault R.1 n fa hac
  have b60 : GX102_bits tb (Int32.ofInt 60) (Int32.ofInt 4) M = (lN (ul tb / 2 ^ 60 % 2 ^ 4), M) := X102_bits (M := M) tb (k := 60) (n := 4) (by decide) (by decide)
  have e0 : lg_cmp (lN (ul tb / 2 ^ 60 % 2 ^ 4)) (Int64.ofInt 0) = 0 ↔ srt tb = 0 := by
    have := ul_lt tb
    have p60 : (2 : Nat) ^ 60 = 1152921504606846976 := by decide
    have p4 : (2 : Nat) ^ 4 = 16 := by decide
    rw [cl_eq, show ul (Int64.ofInt 0) = 0 from rfl, l_big (by omega)]
    unfold srt
    omega
  have P21 : HX84_find_21 t a ac md (nI s) M ∧ GX84_find_21 t a ac md (nI s) M = (finW F T K ac md s (fi (ul a < 2 ^ 56) a (acF ac)), M) := by
    unfold HX84_find_21 GX84_find_21 HX84_find_40 GX84_find_40
    rw [propext (sh_56 a), f2]
    dsimp only
    obtain ⟨g1, g2⟩ := find_55 (md := md) (p := acF ac) V0 I C hac hs (Or.inl (acF_n ac))
    by_cases h : ul a < 2 ^ 56
    · obtain ⟨k1, k2⟩ := find_55 (md := md) (p := a) V0 I C hac hs (Or.inr (Nat.lt_trans h (by decide)))
      rw [fi_pos h, fi_pos h, k2]
      exact ⟨⟨fun _ => k1, fun q => absurd h q⟩, rfl⟩
    · rw [fi_neg h, fi_neg h, g2]
      exact ⟨⟨fun q => absurd q h, fun _ => ⟨f1, g1⟩⟩, rfl⟩
  by_cases hp : pln md tb
  · have ew : wval (wfd (ldC r M) (okLw F T K) (okSw F T K) rt ac md a tb) (ul a % 4096) = fi (ul a < 2 ^ 56) a (acF ac) ∧ (wfd (ldC r M) (okLw F T K) (okSw F T K) rt ac md a tb).2.1 = none := by
      unfold wfd
      rw [fi_pos hp]
      by_cases h : ul a < 2 ^ 56
      · rw [fi_pos h, fi_pos h]
        refine ⟨?_, rfl⟩
        show lN (ul a / 4096 * 4096 + ul a % 4096) = a
        rw [show ul a / 4096 * 4096 + ul a % 4096 = ul a by omega, lN_ul]
      · rw [fi_neg h, fi_neg h]
        exact ⟨rfl, rfl⟩
    rw [ew.1, ew.2]
    have HG : HX84_find t a ac md (nI s) M ∧ GX84_find t a ac md (nI s) M = (finW F T K ac md s (fi (ul a < 2 ^ 56) a (acF ac)), M) := by
      unfold HX84_find HX84_find_0 GX84_find GX84_find_0
      rw [ht, b60]
      dsimp only
      rw [propext e0, fi_or, fi_pos (show md = Int32.ofInt 3 ∨ srt tb = 0 from hp), P21.2]
      exact ⟨⟨fun _ => P21.1, fun q => ⟨fun _ => P21.1, fun q2 => absurd hp (fun z => z.elim q q2)⟩⟩, rfl⟩
    exact ⟨M, HG.1, HG.2, ⟨R.1, ext_r M⟩, V0, St, fun j hj => ke_w (Nat.le_succ _) (Nat.le_refl _) (Ke j hj), rfl, M, ramQ_r R, ramQ_r R⟩
  · obtain ⟨N, t1, t2, t3, t4⟩ := X84_translate (a := a) (md := md) V0 I C hac St Ke hB hV
    have ew : wfd (ldC r M) (okLw F T K) (okSw F T K) rt ac md a tb = wlk0 (ldC r M) (okLw F T K) (okSw F T K) rt ac md a tb := by
      unfold wfd
      rw [fi_neg hp]
    rw [ew]
    obtain ⟨g1, g2⟩ := find_55 (md := md) t4.1 I C hac hs (wlk0_p (ld := ldC r M) (okL := okLw F T K) (okS := okSw F T K) (rt := rt) (ac := ac) (md := md) (a := a) (tb := tb))
    refine ⟨N, ?_, ?_, t3, t4⟩
    · unfold HX84_find HX84_find_0
      rw [ht, b60]
      dsimp only
      rw [propext e0, t2]
      exact ⟨fun q => absurd (Or.inl q) hp, fun _ => ⟨fun q => absurd (Or.inr q) hp, fun _ => ⟨t1, g1⟩⟩⟩
    · unfold GX84_find GX84_find_0
      rw [ht, b60]
      dsimp only
      rw [propext e0, fi_or, fi_neg (show ¬ (md = Int32.ofInt 3 ∨ srt tb = 0) from hp), t2]
      exact g2
end Tf
/-- the twin's RAM is the same -/
def TamQ (c : Nat) (M N : FM) : Prop := TrI c N ∧ N.2.2 389 c 0 = M.2.2 389 c 0 ∧ N.2.2 390 c 0 = M.2.2 390 c 0 ∧ (∀ i, tmb N c i = tmb M c i) ∧ ∀ p, N.2.1 3 (M.2.2 389 c 0) p = M.2.1 3 (M.2.2 389 c 0) p ∧ N.1 3 (M.2.2 390 c 0) p = M.1 3 (M.2.2 390 c 0) p
theorem tamQ_t {c : Nat} {M N X : FM} (h : TamQ c M N) (k : TamQ c N X) : TamQ c M X := by
  obtain ⟨_, h2, h3, h4, h5⟩ := h
  obtain ⟨k1, k2, k3, k4, k5⟩ := k
  rw [h2, h3] at k5
  exact ⟨k1, k2.trans h2, k3.trans h3, fun i => (k4 i).trans (h4 i), fun p => ⟨(k5 p).1.trans (h5 p).1, (k5 p).2.trans (h5 p).2⟩⟩
theorem rel_tmq {r c : Nat} {Mc M N : FM} (R : RelRam r c Mc M) (Q : TamQ c M N) : RelRam r c Mc N := by
  obtain ⟨r1, r2, r3, r4, r5, r6⟩ := R
  obtain ⟨q1, q2, q3, q4, q5⟩ := Q
  refine ⟨r1, q1, r3, r4, fun i hi => by rw [q4]; exact r5 i hi, fun p hp => ?_⟩
  rw [q2, q3, (q5 p).1, (q5 p).2]
  exact r6 p hp
def TMFr (S : Nat → Prop) : Prop := ¬ S 388 ∧ ¬ S 389 ∧ ¬ S 390 ∧ ¬ S 391 ∧ ¬ S 392 ∧ ¬ S 393 ∧ ¬ S 1388 ∧ ¬ S 1389 ∧ ¬ S 1390 ∧ ¬ S 1391 ∧ ¬ S 1392
theorem tamQ_k {c hx : Nat} {M N : FM} {S Z : Nat → Prop} (k : Wk S Z hx (fm_nx M) M N) (hS : TMFr S) (TN : Ty N) (R : TrI c M) : TamQ c M N := by
  obtain ⟨s8, s9, s0, s1, s2, s3, a8, a9, a0, a1, a2⟩ := hS
  obtain ⟨T, W, n, hb, P⟩ := R
  have lc : c < fm_nx M := wf_lt W (fm_ist rfl n)
  have e := fun f (hf : Nat.ble 4 f = true) (hs : ¬ S f) => kf (f := f) (a := c) k hf hs lc
  have e8 := congrFun (e 388 rfl s8).2.2 0
  have e9 := congrFun (e 389 rfl s9).2.2 0
  have e0 := congrFun (e 390 rfl s0).2.2 0
  have e1 := congrFun (e 391 rfl s1).2.2 0
  have e2 := congrFun (e 392 rfl s2).2.2 0
  have n8 := tN_388 T.1 n
  have n9 := tN_389 T.1 n
  have n0 := tN_390 T.1 n
  have n1 := tN_391 T.1 n
  have n2 := tN_392 T.1 n
  have k8 := ka k (sS_388 W n) (wf_n0 W (fm_ist rfl n8)) a8 (wf_lt W (fm_ist rfl n8))
  have k9 := ka k (sS_389 W n) (wf_n0 W (fm_ist rfl n9)) a9 (wf_lt W (fm_ist rfl n9))
  have k0 := ka k (sS_390 W n) (wf_n0 W (fm_ist rfl n0)) a0 (wf_lt W (fm_ist rfl n0))
  have k1 := ka k (sS_391 W n) (wf_n0 W (fm_ist rfl n1)) a1 (wf_lt W (fm_ist rfl n1))
  have k2 := ka k (sS_392 W n) (wf_n0 W (fm_ist rfl n2)) a2 (wf_lt W (fm_ist rfl n2))
  refine ⟨⟨TN, k.1.1, kis k W rfl n, (congrFun (e 393 rfl s3).2.1 0).trans hb, fun p hp => ?_⟩, e9, e0, fun i => ?_, fun p => ⟨congrFun k9.2.1 p, congrFun k0.1 p⟩⟩
  · rw [e9, e1, e2, k9.2.1, k1.1, k2.1]
    exact P p hp
  · unfold tmb
    rw [e8, k8.2.1]
theorem frW_k {w : Nat} {M N : FM} (h : FrW w M N) (n : fm_is M 101 101 w = true) (W : Wf M) : Wk (fun x => fe_mem [429, 430] x = true) (fun _ => True) 0 (fm_nx M) M N := by
  refine ⟨⟨frW_wf h n W, fun _ _ _ _ _ _ => trivial, by unfold fm_nx; rw [h.2.1]; exact Nat.le_refl _, fun _ _ => trivial, fun _ _ => trivial⟩, by unfold fm_nx; rw [h.2.1]; exact Nat.le_refl _, ⟨fun a _ => by rw [h.2.1]; exact ⟨rfl, rfl⟩, fun _ z q => nw0 W h.2.1 z q⟩, fun f a ha hf hs => ?_⟩
  have hs' : ¬ fe_mem [429, 430] (lcn M f a) = true := fun q => hs q trivial
  refine ⟨by rw [h.1], funext fun i => h.2.2 f a i (fun q => hs' ?_), by rw [h.2.1]⟩
  unfold lcn
  rcases q.2 with z | z
  · rw [z, if_neg (by decide)]; rfl
  · rw [z, if_neg (by decide)]; rfl
section Rf
variable {t r g w c : Nat} {Mc Mt : FM} {K : Rg} {F T : Nat → Nat} {rt ac md : Int32} {a tb : Int64} {B Vv s : Nat}
theorem ld_e (R : RelRam r c Mc Mt) {x : Nat} (h : okR x) : ldC r Mc x = ldT c Mt x := by
  obtain ⟨v, _, h2, _, h4⟩ := rel_load R (a := lN x) (sz := Int32.ofInt 8) (s := 8) rfl (by decide) (by decide) h
  unfold ldC ldT
  rw [h2, h4]
theorem rel_find (R : RelRam r c Mc Mt) (V : WtC t r g Mc K rt tb) (Vt : WtV w c Mt K rt tb) (I : VGi K) (C : covR K F T) (hm : md = 0 ∨ md = Int32.ofInt 1 ∨ md = Int32.ofInt 3) (hac : acc3 ac) (hs : s = 1 ∨ s = 2 ∨ s = 4 ∨ s = 8) (hw : ul a % 4096 + s ≤ 4096)
    (St : StK t Mc) (Ke : ∀ j, j < 64 → KeC t r g B Vv Mc K F T j) (hB : B < 9223372036854775808) (hV : Vv < 2147483648) :
    ∃ p Nc Nt, (HX84_find t a ac md (nI s) Mc ∧ GX84_find t a ac md (nI s) Mc = (p, Nc) ∧ OkV Mc Nc) ∧ (HX101_find w a ac md (nI s) Mt ∧ GX101_find w a ac md (nI s) Mt = (p, Nt)) ∧
      RelRam r c Nc Nt ∧ WtC t r g Nc K rt tb ∧ StK t Nc ∧ (∀ j, j < 64 → KeC t r g (B + 1) Vv Nc K F T j) ∧ WtV w c Nt K rt tb ∧ Evo r 1 Mc Nc ∧
      p = finW F T K ac md s (wval (wfd (ldT c Mt) (okLw F T K) (okSw F T K) rt ac md a tb) (ul a % 4096)) := by
  have hs2 : 0 < s ∧ s < 4096 := by omega
  obtain ⟨Nc, c1, c2, c3, c4, c5, c6, c7, N1, q1, q2⟩ := X84_find (a := a) (md := md) V I C hac St Ke hB hV hs2
  have TI := R.2.1
  obtain ⟨T1, T2, t1, t2, t3, t4⟩ := X101_find (a := a) TI.1 TI.2.1 Vt I C hm hac hs hw
  have el : wlk0 (ldC r Mc) (okLw F T K) (okSw F T K) rt ac md a tb = wlk0 (ldT c Mt) (okLw F T K) (okSw F T K) rt ac md a tb := wlk0_c (fun x hx => ld_e R (wlk0_ok.2 x hx).1)
  have ew : wfd (ldC r Mc) (okLw F T K) (okSw F T K) rt ac md a tb = wfd (ldT c Mt) (okLw F T K) (okSw F T K) rt ac md a tb := by
    unfold wfd
    rw [el]
  rw [ew] at c2 q2
  have ok : ∀ q, (wfd (ldT c Mt) (okLw F T K) (okSw F T K) rt ac md a tb).2.1 = some q → okR q.1 := by
    intro q hq
    unfold wfd at hq
    by_cases h : pln md tb
    · rw [fi_pos h] at hq
      by_cases k : ul a < 2 ^ 56
      · rw [fi_pos k] at hq
        cases hq
      · rw [fi_neg k] at hq
        cases hq
    · rw [fi_neg h] at hq
      exact (wlk0_ok.1 q hq).1
  generalize wfd (ldT c Mt) (okLw F T K) (okSw F T K) rt ac md a tb = o at *
  -- the twin's memories
  have W0 := TI.2.1
  have n0 := Vt.1
  have Ws : Wf (fm_sI Mt 422 w 0 (Int32.ofInt 0)) := wf_sI W0 rfl n0
  have Ts : Ty (fm_sI Mt 422 w 0 (Int32.ofInt 0)) := ⟨TI.1.1, tyb_sI rfl TI.1.2⟩
  have Qs : TamQ c Mt (fm_sI Mt 422 w 0 (Int32.ofInt 0)) := by
    refine ⟨⟨Ts, Ws, TI.2.2.1, TI.2.2.2.1, fun p hp => ?_⟩, rfl, rfl, fun i => rfl, fun p => ⟨rfl, oI (fun q => absurd q.1 (by decide))⟩⟩
    rw [rI, rI, if_neg (by omega), if_neg (by omega)]
    exact TI.2.2.2.2 p hp
  have ns : fm_is (fm_sI Mt 422 w 0 (Int32.ofInt 0)) 101 101 w = true := n0
  have TT1 := frW_ty t1 Ts
  have Q1 := tamQ_k (frW_k t1 ns Ws) (by unfold TMFr; decide) TT1 Qs.1
  have R1 : RelRam r c N1 T1 := rel_tmq (rel_tmq (rel_q R q1) Qs) Q1
  have V1 : WtV w c T1 K rt tb := by
    refine frW_W t1 ?_
    obtain ⟨n, hc, nc, v, h5, h6, ht⟩ := Vt
    refine ⟨n, hc, nc, ⟨fun i hi => ?_, v.2⟩, ?_, ?_, ht⟩
    · rw [rI, if_neg (by omega)]
      exact v.1 i hi
    · rw [rI, if_neg (by omega)]
      exact h5
    · rw [rI, if_neg (by omega)]
      exact h6
  have R2 : RelRam r c (wrC r o.2.1 N1) (wrT c o.2.1 T1) ∧ Evo r 1 N1 (wrC r o.2.1 N1) ∧ FrKW c T1 (wrT c o.2.1 T1) := by
    have kf := (wrT_f (c := c) TT1 V1.2.2.1 ok).1
    cases ho : o.2.1 with
    | none => exact ⟨R1, evo_w (evo_r r 0 N1) (Nat.zero_le _), frK_rW c T1⟩
    | some q =>
      have okq := ok q ho
      obtain ⟨x, x1, x2⟩ := okR_o okq
      obtain ⟨s1, s2, s3, s4⟩ := rel_store R1 (a := lN q.1) (sz := Int32.ofInt 8) (s := 8) rfl (by decide) (by decide) okq q.2
      rw [ho] at kf
      refine ⟨s3, ?_, kf⟩
      refine evo_st (o := x) (s := 8) (by decide) (by decide) x2 (a := lN q.1) (v := q.2) ?_
      rw [show ul (lN q.1) - 2147483648 = x by omega] at s4
      exact s4
  obtain ⟨R2, ev, kf⟩ := R2
  have V2 := frK_W Q1.1.2.1 TT1 kf V1
  have V3 := frW_W t2 V2
  have R3 := rel_q R2 q2
  have Q3 := tamQ_k (frW_k t2 V2.1 R2.2.1.2.1) (by unfold TMFr; decide) (frW_ty t2 R2.2.1.1) R2.2.1
  exact ⟨_, Nc, T2, ⟨c1, c2, c3⟩, ⟨t3, t4⟩, rel_tmq R3 Q3, c4, c5, c6, V3, evo_q' (evo_q q1 ev) q2, rfl⟩
end Rf
