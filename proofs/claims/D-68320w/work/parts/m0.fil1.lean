/-! memory is filled with zeros: the component -/
set_option maxRecDepth 100000
/-- from M to N the bytes of a stretch became zero; nothing else was written but counts -/
def FlZ (r o e : Nat) (M N : FM) : Prop := RamI r N ∧ Ext M N ∧ N.1 = M.1 ∧ N.2.2 = M.2.2 ∧ (∀ f b i, f ≠ 3 → N.2.1 f b i = M.2.1 f b i) ∧ ∀ i, i < 33554432 → cmb N r i = if 8 * o ≤ i ∧ i < 8 * e then false else cmb M r i
section Fz
variable {r o e k q : Nat} {M N X : FM}
theorem flZ_0 (I : RamI r M) : FlZ r o o M M := ⟨I, ext_r M, rfl, rfl, fun _ _ _ _ => rfl, fun i _ => by rw [if_neg (by omega)]⟩
theorem flZ_t (h1 : o ≤ k) (h2 : k ≤ e) (a : FlZ r o k M N) (b : FlZ r k e N X) : FlZ r o e M X := by
  obtain ⟨a1, a2, a3, a4, a5, a6⟩ := a
  obtain ⟨b1, b2, b3, b4, b5, b6⟩ := b
  refine ⟨b1, ext_tr a2 b2, b3.trans a3, b4.trans a4, fun f b i h => (b5 f b i h).trans (a5 f b i h), fun i hi => ?_⟩
  rw [b6 i hi, a6 i hi]
  by_cases c1 : 8 * k ≤ i ∧ i < 8 * e
  · rw [if_pos c1, if_pos (by omega)]
  · rw [if_neg c1]
    by_cases c2 : 8 * o ≤ i ∧ i < 8 * k
    · rw [if_pos c2, if_pos (by omega)]
    · rw [if_neg c2, if_neg (by omega)]
/-- one byte of a page -/
theorem pf_1 (I : RamI r M) (hq : q < 1024) (h0 : ¬ cpg M r q = 0) (hk : k < 4096) :
    HX91_put (cpg M r q) (nI k) (Int32.ofInt 1) (Int32.ofInt 0).toInt64 M ∧ FlZ r (4096 * q + k) (4096 * q + (k + 1)) M (GX91_put (cpg M r q) (nI k) (Int32.ofInt 1) (Int32.ofInt 0).toInt64 M) ∧ ∀ p, cwr (GX91_put (cpg M r q) (nI k) (Int32.ofInt 1) (Int32.ofInt 0).toInt64 M) r p = cwr M r p := by
  obtain ⟨T, W, n, PI⟩ := I
  have pn : ui (nI k) = k := by rw [ui_nI]; omega
  have np := cpg_is T n hq h0
  obtain ⟨p1, p2⟩ := put_mb T n PI hq pn (sz := Int32.ofInt 1) (s := 1) rfl (by decide) (by decide) (by omega) h0 (Int32.ofInt 0).toInt64
  obtain ⟨f1, f2, f3⟩ := X91_put_fr (a := cpg M r q) (M := M) (at_ := nI k) (sz := Int32.ofInt 1) (v := (Int32.ofInt 0).toInt64)
  have g := gX91_put (cpg M r q) (nI k) (Int32.ofInt 1) (Int32.ofInt 0).toInt64 M T np p1
  have hr2 := tN_201 T.1 np
  have t2 : M.2.2 0 (M.2.2 201 (cpg M r q) 0) 0 ≠ 0 := fm_ist (lo := 902) rfl hr2
  have W2 : Wf (GX91_put (cpg M r q) (nI k) (Int32.ofInt 1) (Int32.ofInt 0).toInt64 M) := wf_eq f2 (fun a f i h => ⟨by rw [f1], f3 f a i (fun z => t2 (by rw [← z.2]; exact h))⟩) W
  have ne : M.2.2 201 (cpg M r q) 0 ≠ M.2.2 204 r 0 := sf_ne W (sS_201 W np) (sS_204 W n) (lo := 902) rfl hr2 (by decide)
  refine ⟨p1, ⟨⟨g.2.1, W2, by rw [fm_is, f2]; exact n, put_pgi PI⟩, g.2.2, f1, f2, fun f b i h => f3 f b i (fun z => h z.1), fun i hi => ?_⟩, fun p => ?_⟩
  · rw [p2 i hi]
    by_cases c : 32768 * q + 8 * k ≤ i ∧ i < 32768 * q + 8 * (k + 1)
    · rw [if_pos c, if_pos (by omega)]
      exact lb_0 _
    · rw [if_neg c, if_neg (by omega)]
  · unfold cwr
    rw [f2]
    exact f3 _ _ _ (fun z => ne z.2.symm)
theorem pf_L (hq : q < 1024) (he : e ≤ 4096) : ∀ m j k M, k + m = e → m < j → RamI r M → ¬ cpg M r q = 0 → ∃ N, FX91_fill_L3 fN j (cpg M r q) (nI e) (Int32.ofInt 0) (nI k) M = some N ∧ FlZ r (4096 * q + k) (4096 * q + e) M N ∧ ∀ p, cwr N r p = cwr M r p := by
  intro m
  induction m with
  | zero =>
    intro j k M hk hj I h0
    obtain ⟨j, rfl⟩ : ∃ y, j = y + 1 := ⟨j - 1, by omega⟩
    have c1 : nI e ≤ nI k := (n_le (by omega) (by omega)).mpr (by omega)
    refine ⟨M, ?_, by rw [show k = e by omega]; exact flZ_0 I, fun _ => rfl⟩
    show FX91_fill_3 fN (FX91_fill_L3 fN j) (cpg M r q) (nI e) (Int32.ofInt 0) (nI k) M = _
    rw [(gX91_fill_3 (FX91_fill_L3 fN j) (cpg M r q) (nI e) (Int32.ofInt 0) (nI k) M I.1 (cpg_is I.1 I.2.2.1 hq h0) ⟨fun _ => trivial, fun z => absurd c1 z⟩).1]
    unfold GX91_fill_3
    rw [fi_pos c1]
    rfl
  | succ m ih =>
    intro j k M hk hj I h0
    obtain ⟨j, rfl⟩ : ∃ y, j = y + 1 := ⟨j - 1, by omega⟩
    have c1 : ¬ nI e ≤ nI k := fun z => by
      have := (n_le (by omega) (by omega)).mp z
      omega
    obtain ⟨p1, z1, w1⟩ := pf_1 I hq h0 (show k < 4096 by omega)
    have ec : cpg (GX91_put (cpg M r q) (nI k) (Int32.ofInt 1) (Int32.ofInt 0).toInt64 M) r q = cpg M r q := by
      unfold cpg
      rw [z1.2.2.2.1]
    obtain ⟨N, g1, g2, g3⟩ := ih j (k + 1) _ (by omega) (by omega) z1.1 (by rw [ec]; exact h0)
    rw [ec] at g1
    refine ⟨N, ?_, flZ_t (by omega) (by omega) z1 g2, fun p => (g3 p).trans (w1 p)⟩
    show FX91_fill_3 fN (FX91_fill_L3 fN j) (cpg M r q) (nI e) (Int32.ofInt 0) (nI k) M = _
    rw [(gX91_fill_3 (FX91_fill_L3 fN j) (cpg M r q) (nI e) (Int32.ofInt 0) (nI k) M I.1 (cpg_is I.1 I.2.2.1 hq h0) ⟨fun z => absurd z c1, fun _ => ⟨p1, trivial⟩⟩).1]
    unfold GX91_fill_3
    dsimp only
    rw [fi_neg c1, show nI k + Int32.ofInt 1 = nI (k + 1) from nI_a (n := 1)]
    exact g1
theorem X91_fill (I : RamI r M) (hq : q < 1024) (h0 : ¬ cpg M r q = 0) (he : e ≤ 4096) (hk : k ≤ e) : HX91_fill (cpg M r q) (nI k) (nI e) (Int32.ofInt 0) M ∧ ∃ N, GX91_fill (cpg M r q) (nI k) (nI e) (Int32.ofInt 0) M = N ∧ FlZ r (4096 * q + k) (4096 * q + e) M N ∧ ∀ p, cwr N r p = cwr M r p := by
  obtain ⟨N, g1, g2, g3⟩ := pf_L hq he (e - k) fN k M (by omega) (by unfold fN; omega) I h0
  have Ax : FX91_fill fN (cpg M r q) (nI k) (nI e) (Int32.ofInt 0) M = some N := by
    show FX91_fill_0 fN (FX91_fill_L3 fN fN) (cpg M r q) (nI k) (nI e) (Int32.ofInt 0) M = _
    rw [(gX91_fill_0 (FX91_fill_L3 fN fN) (cpg M r q) (nI k) (nI e) (Int32.ofInt 0) M I.1).1]
    exact g1
  obtain ⟨x1, x2⟩ := op_of (d := M) Ax (P := OkV M) ⟨g2.1.1, g2.2.1⟩
  exact ⟨x1, N, x2, g2, g3⟩
/-- a page's count of writes rises -/
theorem cw_1 (I : RamI r M) (hq : q < 1024) : FlZ r o o M (fm_sL M 3 (M.2.2 204 r 0) q (M.2.1 3 (M.2.2 204 r 0) q + Int64.ofInt 1)) ∧ ∀ p, cwr (fm_sL M 3 (M.2.2 204 r 0) q (M.2.1 3 (M.2.2 204 r 0) q + Int64.ofInt 1)) r p = if p = q then cwr M r p + lN 1 else cwr M r p := by
  obtain ⟨T, W, n, PI⟩ := I
  have n4 := tN_204 T.1 n
  have cp : ∀ p, p < 1024 → ¬ cpg M r p = 0 → M.2.2 201 (cpg M r p) 0 ≠ M.2.2 204 r 0 := fun p hp h => sf_ne W (sS_201 W (cpg_is T n hp h)) (sS_204 W n) (lo := 902) rfl (tN_201 T.1 (cpg_is T n hp h)) (by decide)
  refine ⟨⟨⟨⟨T.1, T.2⟩, wf_sL (lo := 902) (hi := 902) W rfl n4, n, PI⟩, fun _ _ => ⟨rfl, rfl⟩, rfl, rfl, fun f b i h => oL (fun z => h z.1), fun i hi => ?_⟩, fun p => ?_⟩
  · rw [if_neg (by omega)]
    by_cases h : cpg M r (i / 32768) = 0
    · rw [cmb_0 h, cmb_0 (M := fm_sL M 3 (M.2.2 204 r 0) q _) h]
    · rw [cmb_1 h, cmb_1 (M := fm_sL M 3 (M.2.2 204 r 0) q _) h]
      show lb ((fm_sL M 3 (M.2.2 204 r 0) q _).2.1 3 (M.2.2 201 (cpg M r (i / 32768)) 0) _) _ = _
      rw [oL (fun z => cp _ (by omega) h z.2.1)]
  · show (fm_sL M 3 (M.2.2 204 r 0) q _).2.1 3 (M.2.2 204 r 0) p = _
    by_cases c : p = q
    · rw [if_pos c, c]
      exact if_pos ⟨rfl, rfl, rfl⟩
    · rw [if_neg c]
      exact oL (fun z => c z.2.2)
theorem min_l {x y : Int64} (hx : ul x < 2147483648) (hy : ul y < 2147483648) : GJ5_min_2 x y M = ((if ul x ≤ ul y then x else y), M) := by
  unfold GJ5_min_2 GJ5_min_2_0 GJ5_min_2_11
  have e : 0 < lg_cmp x y ↔ ¬ ul x ≤ ul y := by
    rw [cl_gt, tl, tl, if_pos (by omega), if_pos (by omega)]
    omega
  by_cases c : ul x ≤ ul y
  · rw [fi_neg (fun z => e.mp z c), if_pos c]
  · rw [fi_pos (e.mpr c), if_neg c]
/-- one stretch of a page -/
theorem ch_1 {fr to at_ : Int64} (I : RamI r M) (hk : k < e) (he : e ≤ 4194304) (ha : ul at_ = 2147483648 + k) (ht : ul to = 2147483648 + e) :
    HX11_fill_3 r fr to (Int32.ofInt 0) at_ M ∧ ∃ at2 k2 N, GX11_fill_3 r fr to (Int32.ofInt 0) at_ M = .inl (r, fr, to, Int32.ofInt 0, at2, N) ∧ ul at2 = 2147483648 + k2 ∧ k < k2 ∧ k2 ≤ e ∧ FlZ r k k2 M N ∧ Evo r 1 M N := by
  have I0 := I
  obtain ⟨T, W, n, PI⟩ := I
  have hq : k / 4096 < 1024 := by omega
  obtain ⟨pg, pg1, pg2⟩ := X11_pageOf (a := at_) (o := k) ha (by omega) M
  obtain ⟨pl, pl1, pl2⟩ := X11_placeOf (a := at_) (o := k) ha (by omega) M
  have pgc : pg.toNatClampNeg = k / 4096 := by rw [cl_ui (by omega), pg2]
  have us : ul (to - at_) = e - k := by
    rw [ul_sub, ha, ht]
    omega
  have ua : ul (pl.toInt64 + (to - at_)) = k % 4096 + (e - k) := by
    rw [ul_add, ul_sext, us, pl2, if_pos (by omega)]
    omega
  have mn := min_l (M := M) (x := Int64.ofInt 4096) (y := pl.toInt64 + (to - at_)) (by decide) (by omega)
  obtain ⟨z, mz, hz⟩ : ∃ z, GJ5_min_2 (Int64.ofInt 4096) (pl.toInt64 + (to - at_)) M = (z, M) ∧ ul z = min 4096 (k % 4096 + (e - k)) := by
    refine ⟨_, mn, ?_⟩
    rw [ua, show ul (Int64.ofInt 4096) = 4096 from rfl]
    by_cases c : 4096 ≤ k % 4096 + (e - k)
    · rw [if_pos c]
      show 4096 = _
      omega
    · rw [if_neg c, ua]
      omega
  have uz : ui z.toInt32 = min 4096 (k % 4096 + (e - k)) := by
    rw [ui_low, hz]
    omega
  have ue : ui (z.toInt32 - pl) = min 4096 (k % 4096 + (e - k)) - k % 4096 := by
    rw [ui_sub, uz, pl2]
    omega
  have u2 : ul (at_ + (z.toInt32 - pl).toInt64) = 2147483648 + (k + (min 4096 (k % 4096 + (e - k)) - k % 4096)) := by
    rw [ul_add, ul_sext, ue, if_pos (by omega), ha]
    omega
  have c1 : ¬ 0 ≤ lg_cmp at_ to := by
    rw [cl_ge, tl, tl, ha, ht, if_pos (by omega), if_pos (by omega)]
    omega
  have c0 : (Int32.ofInt 0 &&& Int32.ofInt 255) = 0 := by decide
  have i4 : fm_in M (M.2.2 204 r 0) pg = true := in_u (tL_204 T.1 n) (by omega) (by decide)
  have i3 : fm_in M (M.2.2 203 r 0) pg = true := in_u (tL_203 T.1 n) (by omega) (by decide)
  have ev : ∀ N, (∀ p, cwr N r p = if p = k / 4096 then cwr M r p + lN 1 else cwr M r p) → (∀ i, i < 33554432 → cmb N r i = if 8 * k ≤ i ∧ i < 8 * (k + (min 4096 (k % 4096 + (e - k)) - k % 4096)) then false else cmb M r i) → Evo r 1 M N := by
    intro N h1 h2 p hp
    by_cases c : p = k / 4096
    · exact ⟨1, Nat.le_refl _, by rw [h1, if_pos c], fun z => by cases z⟩
    · refine ⟨0, Nat.zero_le _, by rw [h1, if_neg c]; exact (Int64.add_zero _).symm, fun _ i hi => ?_⟩
      rw [h2 i (by omega), if_neg (by omega)]
  by_cases h0 : cpg M r (k / 4096) = 0
  · obtain ⟨w1, w2⟩ := cw_1 (o := k) I0 hq
    have z2 : ∀ i, i < 33554432 → cmb (fm_sL M 3 (M.2.2 204 r 0) (k / 4096) (M.2.1 3 (M.2.2 204 r 0) (k / 4096) + Int64.ofInt 1)) r i = if 8 * k ≤ i ∧ i < 8 * (k + (min 4096 (k % 4096 + (e - k)) - k % 4096)) then false else cmb M r i := fun i hi => by
      rw [w1.2.2.2.2.2 i hi, if_neg (by omega)]
      by_cases c : 8 * k ≤ i ∧ i < 8 * (k + (min 4096 (k % 4096 + (e - k)) - k % 4096))
      · rw [if_pos c]
        exact cmb_0 (by rw [show i / 32768 = k / 4096 by omega]; exact h0)
      · rw [if_neg c]
    have A : HX11_fill_3 r fr to (Int32.ofInt 0) at_ M ∧ GX11_fill_3 r fr to (Int32.ofInt 0) at_ M = .inl (r, fr, to, Int32.ofInt 0, at_ + (z.toInt32 - pl).toInt64, fm_sL M 3 (M.2.2 204 r 0) (k / 4096) (M.2.1 3 (M.2.2 204 r 0) (k / 4096) + Int64.ofInt 1)) := by
      unfold HX11_fill_3 GX11_fill_3
      dsimp only
      rw [fi_neg c1, fi_pos c0, pg1]
      dsimp only
      rw [pl1]
      dsimp only
      rw [mz]
      dsimp only
      rw [pgc, fi_pos (show M.2.2 3 (M.2.2 203 r 0) (k / 4096) = 0 from h0)]
      unfold HX11_fill_75 GX11_fill_75
      dsimp only
      rw [pgc]
      exact ⟨⟨fun z => absurd z c1, fun _ => ⟨fun _ => ⟨i3, fun _ => ⟨i4, i4, trivial⟩, fun z => absurd h0 z⟩, fun z => absurd c0 z⟩⟩, rfl⟩
    exact ⟨A.1, _, _, _, A.2, u2, by omega, by omega, ⟨w1.1, w1.2.1, w1.2.2.1, w1.2.2.2.1, w1.2.2.2.2.1, z2⟩, ev _ w2 z2⟩
  · have pn : pl = nI (k % 4096) := ui_inj (by rw [pl2, ui_nI]; omega)
    have zn : z.toInt32 = nI (min 4096 (k % 4096 + (e - k))) := ui_inj (by rw [uz, ui_nI]; omega)
    obtain ⟨m1, m2⟩ := X11_made (p := pg) (k := k / 4096) T W n pg2 hq
    have m3 : GX11_made r pg M = (cpg M r (k / 4096), M) := by
      rw [m2]
      unfold mdg mdM
      rw [if_neg h0, if_neg h0]
    obtain ⟨f1, N, f2, f3, f4⟩ := X91_fill (e := min 4096 (k % 4096 + (e - k))) (k := k % 4096) I0 hq h0 (by omega) (by omega)
    rw [← pn, ← zn] at f1 f2
    obtain ⟨w1, w2⟩ := cw_1 (o := k + (min 4096 (k % 4096 + (e - k)) - k % 4096)) (M := N) (r := r) f3.1 hq
    have f3' : FlZ r k (k + (min 4096 (k % 4096 + (e - k)) - k % 4096)) M N := by
      rw [show 4096 * (k / 4096) + k % 4096 = k by omega, show 4096 * (k / 4096) + min 4096 (k % 4096 + (e - k)) = k + (min 4096 (k % 4096 + (e - k)) - k % 4096) by omega] at f3
      exact f3
    have Z := flZ_t (by omega) (Nat.le_refl _) f3' w1
    have r1 := f3.2.2.2.1
    have A : HX11_fill_3 r fr to (Int32.ofInt 0) at_ M ∧ GX11_fill_3 r fr to (Int32.ofInt 0) at_ M = .inl (r, fr, to, Int32.ofInt 0, at_ + (z.toInt32 - pl).toInt64, fm_sL N 3 (N.2.2 204 r 0) (k / 4096) (N.2.1 3 (N.2.2 204 r 0) (k / 4096) + Int64.ofInt 1)) := by
      unfold HX11_fill_3 GX11_fill_3
      dsimp only
      rw [fi_neg c1, fi_pos c0, pg1]
      dsimp only
      rw [pl1]
      dsimp only
      rw [mz]
      dsimp only
      rw [pgc, fi_neg (show ¬ M.2.2 3 (M.2.2 203 r 0) (k / 4096) = 0 from h0)]
      unfold HX11_fill_60 GX11_fill_60
      dsimp only
      rw [m3]
      dsimp only
      rw [f2]
      unfold HX11_fill_75 GX11_fill_75
      dsimp only
      rw [pgc]
      have i4' : fm_in N (N.2.2 204 r 0) pg = true := in_u (N := 1024) (by rw [r1]; exact tL_204 T.1 n) (by omega) (by decide)
      exact ⟨⟨fun z => absurd z c1, fun _ => ⟨fun _ => ⟨i3, fun z => absurd z h0, fun _ => ⟨m1, f1, i4', i4', trivial⟩⟩, fun z => absurd c0 z⟩⟩, rfl⟩
    refine ⟨A.1, _, _, _, A.2, u2, by omega, by omega, Z, ev _ (fun p => ?_) Z.2.2.2.2.2⟩
    rw [w2 p, f4 p]
theorem cf_L {fr to : Int64} (he : e ≤ 4194304) (ht : ul to = 2147483648 + e) : ∀ m j k at_ M, e ≤ k + m → k ≤ e → m < j → ul at_ = 2147483648 + k → RamI r M → ∃ N, FX11_fill_L3 fN j r fr to (Int32.ofInt 0) at_ M = some (rtM r fr to 4 N) ∧ FlZ r k e M N ∧ Evo r m M N := by
  intro m
  induction m with
  | zero =>
    intro j k at_ M hk hk2 hj ha I
    obtain ⟨j, rfl⟩ : ∃ y, j = y + 1 := ⟨j - 1, by omega⟩
    have c1 : 0 ≤ lg_cmp at_ to := by
      rw [cl_ge, tl, tl, ha, ht, if_pos (by omega), if_pos (by omega)]
      omega
    obtain ⟨t1, t2⟩ := X11_touch (fr := fr) (to := to) I.1 I.2.2.1
    refine ⟨M, ?_, by rw [show k = e by omega]; exact flZ_0 I, evo_r r 0 M⟩
    show FX11_fill_3 fN (FX11_fill_L3 fN j) r fr to (Int32.ofInt 0) at_ M = _
    rw [(gX11_fill_3 (FX11_fill_L3 fN j) r fr to (Int32.ofInt 0) at_ M I.1 I.2.2.1 ⟨fun _ => ⟨t1, trivial⟩, fun z => absurd c1 z⟩).1]
    unfold GX11_fill_3
    dsimp only
    rw [fi_pos c1, t2]
    rfl
  | succ m ih =>
    intro j k at_ M hk hk2 hj ha I
    by_cases hlt : k < e
    · obtain ⟨j, rfl⟩ : ∃ y, j = y + 1 := ⟨j - 1, by omega⟩
      obtain ⟨a1, at2, k2, M1, a2, a3, a4, a5, a6, a7⟩ := ch_1 (fr := fr) I hlt he ha ht
      obtain ⟨N, g1, g2, g3⟩ := ih j k2 at2 M1 (by omega) a5 (by omega) a3 a6.1
      refine ⟨N, ?_, flZ_t (by omega) a5 a6 g2, ?_⟩
      · show FX11_fill_3 fN (FX11_fill_L3 fN j) r fr to (Int32.ofInt 0) at_ M = _
        rw [(gX11_fill_3 (FX11_fill_L3 fN j) r fr to (Int32.ofInt 0) at_ M I.1 I.2.2.1 a1).1, a2]
        exact g1
      · rw [Nat.add_comm]
        exact evo_t a7 g3
    · obtain ⟨N, g1, g2, g3⟩ := ih j k at_ M (by omega) hk2 (by omega) ha I
      exact ⟨N, g1, g2, evo_w g3 (by omega)⟩
theorem X11_fill {fr to : Int64} (I : RamI r M) (hoe : o ≤ e) (he : e ≤ 4194304) (ha : ul fr = 2147483648 + o) (ht : ul to = 2147483648 + e) :
    HX11_fill r fr to (Int32.ofInt 0) M ∧ ∃ N, GX11_fill r fr to (Int32.ofInt 0) M = rtM r fr to 4 N ∧ FlZ r o e M N ∧ Evo r 4194304 M N := by
  obtain ⟨N, g1, g2, g3⟩ := cf_L (fr := fr) he ht (e - o) fN o fr M (by omega) hoe (by unfold fN; omega) ha I
  have Ax : FX11_fill fN r fr to (Int32.ofInt 0) M = some (rtM r fr to 4 N) := by
    show FX11_fill_0 fN (FX11_fill_L3 fN fN) r fr to (Int32.ofInt 0) M = _
    rw [(gX11_fill_0 (FX11_fill_L3 fN fN) r fr to (Int32.ofInt 0) M I.1).1]
    exact g1
  obtain ⟨r1, r2⟩ := rt_ok g2.1 fr to
  obtain ⟨x1, x2⟩ := op_of (d := M) Ax (P := OkV M) ⟨r1.1, ext_tr g2.2.1 (fun _ _ => ⟨rfl, rfl⟩)⟩
  exact ⟨x1, N, x2, g2, evo_w g3 (by omega)⟩
end Fz
