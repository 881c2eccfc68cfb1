/-! the component's memory is written: stores -/
def RamI (r : Nat) (M : FM) : Prop := Ty M ∧ Wf M ∧ fm_is M 73 73 r = true ∧ PgI r M
theorem wf_sL {M : FM} {lo hi f a i : Nat} {v : Int64} (W : Wf M) (hlo : Nat.ble 1 lo = true) (g : fm_is M lo hi a = true) : Wf (fm_sL M f a i v) :=
  (wk_L (S := fun _ => True) (wk_r (wi_T W)) hlo g trivial (Or.inr trivial) W.2.2.2).1.1
theorem wf_sI {M : FM} {lo hi f a i : Nat} {v : Int32} (W : Wf M) (hlo : Nat.ble 1 lo = true) (g : fm_is M lo hi a = true) : Wf (fm_sI M f a i v) :=
  (wk_I (S := fun _ => True) (wk_r (wi_T W)) hlo g trivial (Or.inr trivial) W.2.2.2).1.1
/-- a part of a store: in one page -/
noncomputable def ptM (r k : Nat) (p sz : Int32) (v : Int64) (M : FM) : FM :=
  fm_sL (GX91_put (mdg r k M) p sz v (mdM r k M)) 3 (M.2.2 204 r 0) k (M.2.1 3 (M.2.2 204 r 0) k + Int64.ofInt 1)
section Sr
variable {r : Nat} {M : FM}
theorem part_ok (I : RamI r M) {k at_ s : Nat} {p sz : Int32} (hk : k < 1024) (hp : ui p = at_) (hs : ui sz = s) (h1 : 1 ≤ s) (h8 : s ≤ 8) (hb : at_ + s ≤ 4096) (v : Int64) :
    HX91_put (mdg r k M) p sz v (mdM r k M) ∧ RamI r (ptM r k p sz v M) ∧ Ext M (ptM r k p sz v M) ∧
    (∀ i, i < 33554432 → cmb (ptM r k p sz v M) r i = if 32768 * k + 8 * at_ ≤ i ∧ i < 32768 * k + 8 * (at_ + s) then lb v (i - (32768 * k + 8 * at_)) else cmb M r i) ∧
    (∀ j, (ptM r k p sz v M).2.1 3 (M.2.2 204 r 0) j = if j = k then M.2.1 3 (M.2.2 204 r 0) j + Int64.ofInt 1 else M.2.1 3 (M.2.2 204 r 0) j) ∧
    (ptM r k p sz v M).1 = M.1 ∧ (∀ f b i, f ≠ 3 → (ptM r k p sz v M).2.1 f b i = M.2.1 f b i) ∧ (ptM r k p sz v M).2.2 203 r 0 = M.2.2 203 r 0 ∧ (ptM r k p sz v M).2.2 204 r 0 = M.2.2 204 r 0 ∧ (ptM r k p sz v M).2.2 205 r 0 = M.2.2 205 r 0 ∧ (∀ q, rsv (ptM r k p sz v M) r q = rsv M r q) ∧
    (∀ f b i, ¬ f = 3 → (GX91_put (mdg r k M) p sz v (mdM r k M)).2.1 f b i = M.2.1 f b i) ∧ (GX91_put (mdg r k M) p sz v (mdM r k M)).2.2 204 r 0 = M.2.2 204 r 0 ∧ (∀ j, (GX91_put (mdg r k M) p sz v (mdM r k M)).2.1 3 (M.2.2 204 r 0) j = M.2.1 3 (M.2.2 204 r 0) j) ∧ fm_is (GX91_put (mdg r k M) p sz v (mdM r k M)) 73 73 r = true ∧ Ty (GX91_put (mdg r k M) p sz v (mdM r k M)) := by
  obtain ⟨T, W, n, PI⟩ := I
  obtain ⟨c1, c2, c3, c4, c5, c6, c7, c8, c9, c10, c11⟩ := mdM_c T W n hk PI
  have pn : ui (nI k) = k := by rw [ui_nI]; omega
  obtain ⟨m1, m2⟩ := X11_made (p := nI k) T W n pn hk
  have T1 : Ty (mdM r k M) := mdM_ty T W n
  have E1 : Ext M (mdM r k M) := mdM_ext W
  have n1 : fm_is (mdM r k M) 73 73 r = true := ext_is E1 (by decide) n
  have W1 : Wf (mdM r k M) := by
    have h := wX11_made (fun _ => True) (fun _ => True) (fun _ _ => trivial) r (nI k) M (wi_T W) trivial _ (gX11_made _ _ _ m1).1
    rw [m2] at h
    exact h.1.1.1
  have h0 : ¬ cpg (mdM r k M) r k = 0 := by rw [c2]; exact c3
  obtain ⟨p1, p2⟩ := put_mb T1 n1 c1 hk hp hs h1 h8 hb h0 v
  rw [c2] at p1 p2
  have gi : fm_is (mdM r k M) 72 72 (mdg r k M) = true := by rw [← c2]; exact cpg_is T1 n1 hk h0
  have G := gX91_put (mdg r k M) p sz v (mdM r k M) T1 gi p1
  have W2 : Wf (GX91_put (mdg r k M) p sz v (mdM r k M)) := (wX91_put (fun _ => True) (fun _ => True) (fun _ _ => trivial) _ p sz v _ (wi_T W1) trivial _ G.1).1.1
  obtain ⟨f1, f2, f3⟩ := X91_put_fr (a := mdg r k M) (M := mdM r k M) (at_ := p) (sz := sz) (v := v)
  have T2 := G.2.1
  have n2 : fm_is (GX91_put (mdg r k M) p sz v (mdM r k M)) 73 73 r = true := ext_is G.2.2 (by decide) n1
  have hC := tN_204 T2.1 n2
  have e204 : (GX91_put (mdg r k M) p sz v (mdM r k M)).2.2 204 r 0 = M.2.2 204 r 0 := by rw [f2]; exact c8
  rw [e204] at hC
  have hCn : M.2.2 204 r 0 ≠ (mdM r k M).2.2 201 (mdg r k M) 0 := by
    rw [← c8]
    exact sf_ne W1 (sS_204 W1 n1) (sS_201 W1 gi) (lo := 902) rfl (tN_204 T1.1 n1) (by decide)
  have eC : ∀ j, (GX91_put (mdg r k M) p sz v (mdM r k M)).2.1 3 (M.2.2 204 r 0) j = M.2.1 3 (M.2.2 204 r 0) j := fun j => by
    rw [f3 _ _ _ (fun q => hCn q.2), c6]
  have hpc : ∀ q, cpg (ptM r k p sz v M) r q = cpg (mdM r k M) r q := fun q => by
    show (GX91_put (mdg r k M) p sz v (mdM r k M)).2.2 3 ((GX91_put (mdg r k M) p sz v (mdM r k M)).2.2 203 r 0) q = _
    rw [f2]
  refine ⟨p1, ⟨⟨T2.1, T2.2⟩, wf_sL W2 (lo := 902) rfl hC, n2, ?_⟩, ext_tr E1 G.2.2, fun i hi => ?_, fun j => ?_, ?_, fun f b i hf => ?_, ?_, e204, ?_, fun q => ?_, fun f b i hf => ?_, e204, eC, n2, T2⟩
  · intro x y hx hy z1 z2 z3
    rw [hpc] at z1 z2 z3
    rw [hpc] at z3
    refine c1 x y hx hy z1 z2 ?_
    have z3' : (GX91_put (mdg r k M) p sz v (mdM r k M)).2.2 201 _ 0 = (GX91_put (mdg r k M) p sz v (mdM r k M)).2.2 201 _ 0 := z3
    rw [f2] at z3'
    exact z3'
  · rw [← c4 i hi, ← p2 i hi]
    by_cases hz : cpg (mdM r k M) r (i / 32768) = 0
    · rw [cmb_0 (by rw [hpc]; exact hz), cmb_0 (by unfold cpg; rw [f2]; exact hz)]
    · have hz2 : ¬ cpg (GX91_put (mdg r k M) p sz v (mdM r k M)) r (i / 32768) = 0 := by
        unfold cpg
        rw [f2]
        exact hz
      rw [cmb_1 (by rw [hpc]; exact hz), cmb_1 hz2, hpc]
      have e1 : cpg (GX91_put (mdg r k M) p sz v (mdM r k M)) r (i / 32768) = cpg (mdM r k M) r (i / 32768) := by
        unfold cpg
        rw [f2]
      rw [e1]
      have hgi := cpg_is T1 n1 (k := i / 32768) (by omega) hz
      have hne : M.2.2 204 r 0 ≠ (mdM r k M).2.2 201 (cpg (mdM r k M) r (i / 32768)) 0 := by
        rw [← c8]
        exact sf_ne W1 (sS_204 W1 n1) (sS_201 W1 hgi) (lo := 902) rfl (tN_204 T1.1 n1) (by decide)
      have e2 : (ptM r k p sz v M).2.2 201 (cpg (mdM r k M) r (i / 32768)) 0 = (mdM r k M).2.2 201 (cpg (mdM r k M) r (i / 32768)) 0 := by
        show (GX91_put (mdg r k M) p sz v (mdM r k M)).2.2 201 _ 0 = _
        rw [f2]
      rw [e2, f2]
      congr 1
      exact if_neg (fun q => hne q.2.1.symm)
  · show (if 3 = 3 ∧ M.2.2 204 r 0 = M.2.2 204 r 0 ∧ j = k then _ else _) = _
    by_cases hj : j = k
    · rw [if_pos ⟨rfl, rfl, hj⟩, if_pos hj, hj]
    · rw [if_neg (fun q => hj q.2.2), if_neg hj]
      exact eC j
  · show (GX91_put (mdg r k M) p sz v (mdM r k M)).1 = M.1
    rw [f1, c5]
  · show (if f = 3 ∧ b = M.2.2 204 r 0 ∧ i = k then _ else _) = _
    rw [if_neg (fun q => hf q.1), f3 _ _ _ (fun q => hf q.1), c6]
  · show (GX91_put (mdg r k M) p sz v (mdM r k M)).2.2 203 r 0 = _
    rw [f2, c7]
  · show (GX91_put (mdg r k M) p sz v (mdM r k M)).2.2 205 r 0 = _
    rw [f2, c9]
  · show (GX91_put (mdg r k M) p sz v (mdM r k M)).2.2 3 ((GX91_put (mdg r k M) p sz v (mdM r k M)).2.2 205 r 0) q = _
    rw [f2]
    exact c10 q
  · rw [f3 _ _ _ (fun q => hf q.1), c6]
/-- a store -/
noncomputable def stM (r : Nat) (a : Int64) (o : Nat) (sz : Int32) (v : Int64) (M : FM) : FM :=
  if o % 4096 + ui sz ≤ 4096 then rtM r a (a + sz.toInt64) 4 (ptM r (o / 4096) (nI (o % 4096)) sz v M)
  else rtM r a (a + sz.toInt64) 4 (ptM r (o / 4096 + 1) (Int32.ofInt 0) (nI (o % 4096 + ui sz - 4096)) (v.toUInt64 >>> (((Int32.ofInt 8) * nI (4096 - o % 4096)).toInt64.toUInt64 &&& Int64.toUInt64 63)).toInt64 (ptM r (o / 4096) (nI (o % 4096)) (nI (4096 - o % 4096)) v M))
theorem rt_ok (I : RamI r M) (fr to : Int64) : RamI r (rtM r fr to 4 M) ∧ (∀ i, cmb (rtM r fr to 4 M) r i = cmb M r i) := by
  obtain ⟨T, W, n, PI⟩ := I
  obtain ⟨h1, h2⟩ := X11_touch (fr := fr) (to := to) T n
  have W2 : Wf (rtM r fr to 4 M) := by
    have h := wX11_touch (fun _ => True) (fun _ => True) (fun _ _ => trivial) fN r fr to M (wi_T W) trivial _ (gX11_touch _ _ _ _ h1).1
    rw [h2] at h
    exact h.1.1
  exact ⟨⟨rtM_ty T, W2, n, PI⟩, fun _ => rfl⟩
def StOk (r : Nat) (a : Int64) (o s : Nat) (v : Int64) (M M' : FM) : Prop :=
  RamI r M' ∧ Ext M M' ∧ (∀ i, i < 33554432 → cmb M' r i = if 8 * o ≤ i ∧ i < 8 * (o + s) then lb v (i - 8 * o) else cmb M r i) ∧
  (∀ j, M'.2.1 3 (M.2.2 204 r 0) j = if j = o / 4096 ∨ j = (o + s - 1) / 4096 then M.2.1 3 (M.2.2 204 r 0) j + Int64.ofInt 1 else M.2.1 3 (M.2.2 204 r 0) j) ∧
  (∀ b, M'.1 208 b 0 = fi ((∃ p, p < 4 ∧ b = rsv M r p) ∧ thit a (a + (nI s).toInt64) (M.2.1 207 b 0)) (Int32.ofInt 0) (M.1 208 b 0)) ∧
  (∀ f b i, f ≠ 3 → M'.2.1 f b i = M.2.1 f b i) ∧ M'.2.2 203 r 0 = M.2.2 203 r 0 ∧ M'.2.2 204 r 0 = M.2.2 204 r 0 ∧ M'.2.2 205 r 0 = M.2.2 205 r 0 ∧ (∀ q, rsv M' r q = rsv M r q)
theorem X11_store (I : RamI r M) {a : Int64} {o s : Nat} {sz : Int32} (ho : ul a = 2147483648 + o) (hs : ui sz = s) (h1 : 1 ≤ s) (h8 : s ≤ 8) (hb : o + s ≤ 4194304) (v : Int64) :
    HX11_store r a sz v M ∧ GX11_store r a sz v M = stM r a o sz v M ∧ StOk r a o s v M (stM r a o sz v M) := by
  have I0 := I
  obtain ⟨T, W, n, PI⟩ := I
  obtain ⟨pl, p1, p2⟩ := X11_placeOf ho (by omega) M
  obtain ⟨pg, q1, q2⟩ := X11_pageOf ho (by omega) M
  have epl : pl = nI (o % 4096) := ui_inj (by rw [p2, ui_nI]; omega)
  have e4 : ui (Int32.ofInt 4096 - pl) = 4096 - o % 4096 := by
    rw [ui_sub, p2, show ui (Int32.ofInt 4096) = 4096 from rfl]
    omega
  obtain ⟨fs, m1, m2, m3⟩ := J5_min sz (Int32.ofInt 4096 - pl) (by omega) (by omega) M
  rw [hs, e4] at m2
  have hk : o / 4096 < 1024 := by omega
  have cp : pg.toNatClampNeg = o / 4096 := by rw [cl_ui (by omega), q2]
  obtain ⟨k1, k2⟩ := X11_made (p := pg) T W n q2 hk
  obtain ⟨a1, a2, a3, a4, a5, a6, a7, a8, a9, a10, a11, a12, a13, a14, a15, a16⟩ := part_ok I0 (k := o / 4096) (p := pl) (sz := fs) (s := ui fs) hk p2 rfl (by omega) (by omega) (by omega) v
  have i1 : fm_in (GX91_put (mdg r (o / 4096) M) pl fs v (mdM r (o / 4096) M)) (M.2.2 204 r 0) pg = true := by
    have h := tL_204 a16.1 a15
    rw [a13] at h
    exact in_u h (by omega) (by decide)
  have esz : sz.toInt64 = (nI s).toInt64 := by
    rw [show sz = nI s from ui_inj (by rw [hs, ui_nI]; omega)]
  have fin : ∀ {N : FM}, RamI r N → HX11_store_93 r a sz N ∧ GX11_store_93 r a sz N = rtM r a (a + sz.toInt64) 4 N := fun {N} IN => by
    obtain ⟨t1, t2⟩ := X11_touch (fr := a) (to := a + sz.toInt64) IN.1 IN.2.2.1
    exact ⟨⟨t1, trivial⟩, t2⟩
  have fst : fm_sL (GX91_put (mdg r (o / 4096) M) pl fs v (mdM r (o / 4096) M)) 3 (M.2.2 204 r 0) (o / 4096) (M.2.1 3 (M.2.2 204 r 0) (o / 4096) + Int64.ofInt 1) = ptM r (o / 4096) pl fs v M := rfl
  by_cases hc : o % 4096 + s ≤ 4096
  · have ef : fs = sz := ui_inj (by rw [m2, hs]; omega)
    have hle : sz ≤ fs := by rw [ef, i_le (by omega) (by omega)]; exact Nat.le_refl _
    obtain ⟨z1, z2⟩ := fin a2
    have key : GX11_store r a sz v M = stM r a o sz v M := by
      unfold GX11_store GX11_store_0
      rw [q1]
      dsimp only
      rw [p1]
      dsimp only
      rw [m1]
      dsimp only
      rw [k2]
      dsimp only
      rw [a13, cp, a14, fst, fi_pos hle, z2]
      unfold stM
      rw [if_pos (by rw [hs]; exact hc), ← epl, ef]
    refine ⟨?_, key, ?_⟩
    · unfold HX11_store HX11_store_0
      rw [q1]
      dsimp only
      rw [p1]
      dsimp only
      rw [m1]
      dsimp only
      rw [k2]
      dsimp only
      rw [a13, cp, a14, fst]
      exact ⟨k1, a1, i1, i1, fun _ => z1, fun q => absurd hle q⟩
    · have est : stM r a o sz v M = rtM r a (a + sz.toInt64) 4 (ptM r (o / 4096) pl fs v M) := by
        unfold stM
        rw [if_pos (by rw [hs]; exact hc), ← epl, ef]
      rw [est]
      have R := rt_ok a2 a (a + sz.toInt64)
      refine ⟨R.1, ext_tr a3 (fun _ _ => ⟨rfl, rfl⟩), fun i hi => ?_, fun j => ?_, fun b => ?_, a7, a8, a9, a10, a11⟩
      · rw [R.2, a4 i hi, ef, hs]
        by_cases c : 8 * o ≤ i ∧ i < 8 * (o + s)
        · rw [if_pos c, if_pos (by omega), show i - (32768 * (o / 4096) + 8 * (o % 4096)) = i - 8 * o from by omega]
        · rw [if_neg c, if_neg (by omega)]
      · show (ptM r (o / 4096) pl fs v M).2.1 3 (M.2.2 204 r 0) j = _
        rw [a5]
        by_cases c : j = o / 4096
        · rw [if_pos c, if_pos (Or.inl c)]
        · rw [if_neg c, if_neg (by omega)]
      · show fi _ _ _ = _
        rw [a6, esz]
        refine fi_c ⟨fun ⟨_, _, ⟨p, h1, h2⟩, h3⟩ => ⟨⟨p, h1, by rw [h2, a11]⟩, by rw [← a7 207 b 0 (by decide)]; exact h3⟩, fun ⟨⟨p, h1, h2⟩, h3⟩ => ⟨rfl, rfl, ⟨p, h1, by rw [a11]; exact h2⟩, by rw [a7 207 b 0 (by decide)]; exact h3⟩⟩
  · have ef : fs = nI (4096 - o % 4096) := ui_inj (by rw [m2, ui_nI]; omega)
    have ufs : ui fs = 4096 - o % 4096 := by omega
    have hle : ¬ sz ≤ fs := by rw [i_le (by omega) (by omega)]; omega
    have ep : ui (pg + Int32.ofInt 1) = o / 4096 + 1 := by
      rw [ui_add, q2, show ui (Int32.ofInt 1) = 1 from rfl]
      omega
    have cp2 : (pg + Int32.ofInt 1).toNatClampNeg = o / 4096 + 1 := by rw [cl_ui (by omega), ep]
    have er : ui (sz - fs) = o % 4096 + s - 4096 := by
      rw [ui_sub, hs]
      omega
    have esr : sz - fs = nI (o % 4096 + ui sz - 4096) := ui_inj (by rw [er, ui_nI, hs]; omega)
    obtain ⟨l1, l2⟩ := X11_made (p := pg + Int32.ofInt 1) (M := ptM r (o / 4096) pl fs v M) a2.1 a2.2.1 a2.2.2.1 ep (by omega)
    obtain ⟨b1, b2, b3, b4, b5, b6, b7, b8, b9, b10, b11, b12, b13, b14, b15, b16⟩ := part_ok a2 (k := o / 4096 + 1) (p := Int32.ofInt 0) (at_ := 0) (sz := sz - fs) (s := o % 4096 + s - 4096) (by omega) rfl er (by omega) (by omega) (by omega) (v.toUInt64 >>> (((Int32.ofInt 8) * fs).toInt64.toUInt64 &&& Int64.toUInt64 63)).toInt64
    rw [a9] at b5 b9 b13 b14
    have i2 : fm_in (GX91_put (mdg r (o / 4096 + 1) (ptM r (o / 4096) pl fs v M)) (Int32.ofInt 0) (sz - fs) (v.toUInt64 >>> (((Int32.ofInt 8) * fs).toInt64.toUInt64 &&& Int64.toUInt64 63)).toInt64 (mdM r (o / 4096 + 1) (ptM r (o / 4096) pl fs v M))) (M.2.2 204 r 0) (pg + Int32.ofInt 1) = true := by
      have h := tL_204 b16.1 b15
      rw [b13] at h
      exact in_u h (by omega) (by decide)
    obtain ⟨z1, z2⟩ := fin b2
    have snd : fm_sL (GX91_put (mdg r (o / 4096 + 1) (ptM r (o / 4096) pl fs v M)) (Int32.ofInt 0) (sz - fs) (v.toUInt64 >>> (((Int32.ofInt 8) * fs).toInt64.toUInt64 &&& Int64.toUInt64 63)).toInt64 (mdM r (o / 4096 + 1) (ptM r (o / 4096) pl fs v M))) 3 (M.2.2 204 r 0) (o / 4096 + 1) ((ptM r (o / 4096) pl fs v M).2.1 3 (M.2.2 204 r 0) (o / 4096 + 1) + Int64.ofInt 1) = ptM r (o / 4096 + 1) (Int32.ofInt 0) (sz - fs) (v.toUInt64 >>> (((Int32.ofInt 8) * fs).toInt64.toUInt64 &&& Int64.toUInt64 63)).toInt64 (ptM r (o / 4096) pl fs v M) := by
      unfold ptM
      unfold ptM at a9
      rw [a9]
    have est : stM r a o sz v M = rtM r a (a + sz.toInt64) 4 (ptM r (o / 4096 + 1) (Int32.ofInt 0) (sz - fs) (v.toUInt64 >>> (((Int32.ofInt 8) * fs).toInt64.toUInt64 &&& Int64.toUInt64 63)).toInt64 (ptM r (o / 4096) pl fs v M)) := by
      unfold stM
      rw [if_neg (by rw [hs]; exact hc), ← epl, ← ef, esr]
    have key : GX11_store r a sz v M = stM r a o sz v M := by
      unfold GX11_store GX11_store_0
      rw [q1]
      dsimp only
      rw [p1]
      dsimp only
      rw [m1]
      dsimp only
      rw [k2]
      dsimp only
      rw [a13, cp, a14, fst, fi_neg hle, l2]
      dsimp only
      rw [b13, cp2, b14, snd, z2, est]
    refine ⟨?_, key, ?_⟩
    · unfold HX11_store HX11_store_0
      rw [q1]
      dsimp only
      rw [p1]
      dsimp only
      rw [m1]
      dsimp only
      rw [k2]
      dsimp only
      rw [a13, cp, a14, fst, l2]
      dsimp only
      rw [b13, cp2, b14, snd]
      exact ⟨k1, a1, i1, i1, fun q => absurd q hle, fun _ => ⟨l1, b1, i2, i2, z1⟩⟩
    · rw [est]
      have R := rt_ok b2 a (a + sz.toInt64)
      refine ⟨R.1, ext_tr (ext_tr a3 b3) (fun _ _ => ⟨rfl, rfl⟩), fun i hi => ?_, fun j => ?_, fun b => ?_, fun f b i hf => ?_, b8.trans a8, b9, b10.trans a10, fun q => (b11 q).trans (a11 q)⟩
      · rw [R.2, b4 i hi, a4 i hi]
        by_cases c : 8 * o ≤ i ∧ i < 8 * (o + s)
        · rw [if_pos c]
          by_cases c2 : 32768 * (o / 4096 + 1) ≤ i
          · rw [if_pos (by omega), lb_ushr _ _ (k := 8 * (4096 - o % 4096)) (by rw [ui_mul, ufs, show ui (Int32.ofInt 8) = 8 from rfl]; omega), show i - (32768 * (o / 4096 + 1) + 8 * 0) + 8 * (4096 - o % 4096) = i - 8 * o from by omega]
          · rw [if_neg (by omega), if_pos (by omega), show i - (32768 * (o / 4096) + 8 * (o % 4096)) = i - 8 * o from by omega]
        · rw [if_neg c, if_neg (by omega), if_neg (by omega)]
      · show (ptM r (o / 4096 + 1) (Int32.ofInt 0) (sz - fs) _ (ptM r (o / 4096) pl fs v M)).2.1 3 (M.2.2 204 r 0) j = _
        rw [b5, a5]
        by_cases c : j = o / 4096 + 1
        · rw [if_pos c, if_neg (by omega), if_pos (Or.inr (by omega))]
        · rw [if_neg c]
          by_cases c2 : j = o / 4096
          · rw [if_pos c2, if_pos (Or.inl c2)]
          · rw [if_neg c2, if_neg (by omega)]
      · show fi _ _ _ = _
        have e7 : (ptM r (o / 4096 + 1) (Int32.ofInt 0) (sz - fs) (v.toUInt64 >>> (((Int32.ofInt 8) * fs).toInt64.toUInt64 &&& Int64.toUInt64 63)).toInt64 (ptM r (o / 4096) pl fs v M)).2.1 207 b 0 = M.2.1 207 b 0 := (b7 207 b 0 (by decide)).trans (a7 207 b 0 (by decide))
        rw [b6, a6, esz, e7]
        exact fi_c ⟨fun ⟨_, _, ⟨p, h1, h2⟩, h3⟩ => ⟨⟨p, h1, by rw [h2, b11, a11]⟩, h3⟩, fun ⟨⟨p, h1, h2⟩, h3⟩ => ⟨rfl, rfl, ⟨p, h1, by rw [b11, a11]; exact h2⟩, h3⟩⟩
      · exact (b7 f b i hf).trans (a7 f b i hf)
end Sr
