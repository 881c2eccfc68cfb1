/-! both memories are written -/
section Wr
variable {r c : Nat} {Mc Mt : FM}
theorem pbM_tri (I : TrI c Mt) {a : Int64} {o : Nat} (ho : ul a = 2147483648 + o) (hb : o < 4194304) (v : Int32) : TrI c (pbM c a o v Mt) ∧ (∀ p, (pbM c a o v Mt).1 3 (Mt.2.2 390 c 0) p = Mt.1 3 (Mt.2.2 390 c 0) p) := by
  obtain ⟨T, W, n, B, S⟩ := I
  obtain ⟨h1, h2⟩ := X93_put T n ho hb v
  have W2 : Wf (pbM c a o v Mt) := by
    have h := wX93_put (fun _ => True) (fun _ => True) (fun _ _ => trivial) fN c a v Mt (wi_T W) trivial _ (gX93_put _ _ _ _ h1).1
    rw [h2] at h
    exact h.1.1
  have hne := tr_ne T W n
  have n12 : Mt.2.2 391 c 0 ≠ Mt.2.2 392 c 0 := sf_ne W (sS_391 W n) (sS_392 W n) (lo := 901) rfl (tN_391 T.1 n) (by decide)
  have n10 : Mt.2.2 391 c 0 ≠ Mt.2.2 390 c 0 := sf_ne W (sS_391 W n) (sS_390 W n) (lo := 901) rfl (tN_391 T.1 n) (by decide)
  have ei : ∀ b i, (pbM c a o v Mt).1 3 b i = if b = Mt.2.2 391 c 0 ∧ i = o / 8 then Mt.1 3 (Mt.2.2 391 c 0) (o / 8) + Int32.ofInt 1 else Mt.1 3 b i := by
    intro b i
    show (if 3 = 3 ∧ b = Mt.2.2 391 c 0 ∧ i = o / 8 then _ else _) = _
    by_cases q : b = Mt.2.2 391 c 0 ∧ i = o / 8
    · rw [if_pos ⟨rfl, q⟩, if_pos q]
    · rw [if_neg (fun z => q z.2), if_neg q]
      rfl
  have eb0 : ∀ N : FM, (clr (Mt.2.2 389 c 0) a 4 N).2.1 393 c 0 = N.2.1 393 c 0 := fun N => fi_neg (fun q => absurd q.1 (by decide))
  have eb : (pbM c a o v Mt).2.1 393 c 0 = Mt.2.1 393 c 0 := (eb0 _).trans (by rw [rI1, rL, if_neg (fun q => absurd q.1 (by decide))])
  refine ⟨⟨pbM_ty T n v, W2, n, eb.trans B, fun p hp => ?_⟩, fun p => ?_⟩
  · rw [pbM_R, pbM_p hne v p hp]
    by_cases q : hit a (Mt.2.1 3 (Mt.2.2 389 c 0) p)
    · rw [fi_pos q]
      exact Or.inl rfl
    · rw [fi_neg q]
      rcases S p hp with z | ⟨z1, z2⟩
      · exact Or.inl z
      · refine Or.inr ⟨z1, ?_⟩
        rw [ei, ei, if_neg (c := Mt.2.2 392 c 0 = _ ∧ _) (fun y => n12 y.1.symm), if_neg (fun y => ?_)]
        · exact z2
        · apply q
          have := (hit_i (a := a) (s := 1) (j := 0) (x := Mt.2.1 3 (Mt.2.2 389 c 0) p) ⟨by omega, by omega⟩ (by decide) z1).mpr (by unfold inR at z1; omega)
          rw [show a + (nI 0).toInt64 = a from ul_inj (by rw [ul_add]; have := ul_lt a; rw [show ul (nI 0).toInt64 = 0 from rfl]; omega)] at this
          exact this
  · rw [ei, if_neg (fun y => n10 y.1.symm)]
theorem kpM_tri (I : TrI c Mt) {a : Int64} {o : Nat} (ho : ul a = 2147483648 + o) (v : Int64) : ∀ k, k ≤ 8 → o + k ≤ 4194304 → TrI c (kpM c a o v k Mt) ∧ (∀ p, (kpM c a o v k Mt).1 3 (Mt.2.2 390 c 0) p = Mt.1 3 (Mt.2.2 390 c 0) p)
  | 0, _, _ => ⟨I, fun _ => rfl⟩
  | k + 1, hk, hb => by
    obtain ⟨i1, i2⟩ := kpM_tri I ho v k (by omega) (by omega)
    obtain ⟨j1, j2⟩ := pbM_tri i1 (ul_addn ho (k := k) (by omega)) (by omega) (vb v k)
    rw [kpM_R] at j2
    exact ⟨j1, fun p => (j2 p).trans (i2 p)⟩
/-- the relation behind a store, from what both sides say of themselves -/
theorem rel_st (R : RelRam r c Mc Mt) {a : Int64} {o s : Nat} (ho : ul a = 2147483648 + o) (h1 : 1 ≤ s) (h8 : s ≤ 8) (hb : o + s ≤ 4194304) {v : Int64} {Mc' M' : FM} (K : StOk r a o s v Mc Mc') (hm : Mc'.1 202 r 0 = Mc.1 202 r 0)
    (I' : TrI c M') (hR : M'.2.2 = Mt.2.2) (hT : ∀ i, tmb M' c i = if 8 * o ≤ i ∧ i < 8 * (o + s) then lb v (i - 8 * o) else tmb Mt c i)
    (hP : ∀ p, p < 4 → M'.2.1 3 (Mt.2.2 389 c 0) p = fi (∃ j, j < s ∧ hit (a + (nI j).toInt64) (Mt.2.1 3 (Mt.2.2 389 c 0) p)) (Int64.ofInt 0) (Mt.2.1 3 (Mt.2.2 389 c 0) p))
    (hZ : ∀ p, M'.1 3 (Mt.2.2 390 c 0) p = Mt.1 3 (Mt.2.2 390 c 0) p) : RelRam r c Mc' M' := by
  obtain ⟨I1, I2, m, D, e, S⟩ := R
  obtain ⟨k1, k2, k3, k4, k5, k6, k7, k8, k9, k10⟩ := K
  refine ⟨k1, I', hm.trans m, fun p q hp hq h => D p q hp hq (by rw [← k10, ← k10]; exact h), fun i hi => ?_, fun p hp => ?_⟩
  · rw [k3 i hi, hT, e i hi]
  · rw [hR, k10, k5, k6 207 _ _ (by decide), hP p hp, hZ]
    have ha : inR a s := ⟨by omega, by omega⟩
    rcases S p hp with ⟨s1, s2⟩ | ⟨s1, s2, s3, s4⟩
    · left
      refine ⟨?_, ?_⟩
      · by_cases z : (∃ p', p' < 4 ∧ rsv Mc r p = rsv Mc r p') ∧ thit a (a + (nI s).toInt64) (Mc.2.1 207 (rsv Mc r p) 0)
        · rw [fi_pos z]
        · rw [fi_neg z]
          exact s1
      · rw [s2, fi_neg (fun ⟨j, _, z⟩ => not_hit0 _ z)]
    · by_cases z : ∃ j, j < s ∧ (ul a + j) / 8 = ul (Mc.2.1 207 (rsv Mc r p) 0) / 8
      · left
        refine ⟨fi_pos ⟨⟨p, hp, rfl⟩, (thit_i ha h1 h8 s4).mpr z⟩, fi_pos ?_⟩
        obtain ⟨j, hj, hz⟩ := z
        exact ⟨j, hj, by rw [← s3]; exact (hit_i ha hj s4).mpr hz⟩
      · right
        rw [fi_neg (fun y => z ((thit_i ha h1 h8 s4).mp y.2)), fi_neg (fun ⟨j, hj, y⟩ => z ⟨j, hj, (hit_i ha hj s4).mp (by rw [s3]; exact y)⟩)]
        exact ⟨s1, s2, s3, s4⟩
theorem st_202 {a : Int64} {o s : Nat} {sz : Int32} {v : Int64} (R : RelRam r c Mc Mt) (ho : ul a = 2147483648 + o) (hs : ui sz = s) (h1 : 1 ≤ s) (h8 : s ≤ 8) (hb : o + s ≤ 4194304) : (stM r a o sz v Mc).1 202 r 0 = Mc.1 202 r 0 := by
  obtain ⟨a1, a2, a3⟩ := X11_store R.1 ho hs h1 h8 hb v
  have h := wX11_store (fun x => fe_mem lX11_store x = true) (fun _ => True) (fun _ h => h) fN r a sz v Mc (wi_N R.1.2.1) trivial _ (gX11_store _ _ _ _ _ R.1.1 R.1.2.2.1 a1).1
  rw [a2] at h
  exact congrFun (kf h (f := 202) rfl (by decide) (wf_lt R.1.2.1 (fm_ist (lo := 73) rfl R.1.2.2.1))).1 0
theorem rel_store (R : RelRam r c Mc Mt) {a : Int64} {s : Nat} {sz : Int32} (hs : ui sz = s) (h1 : 1 ≤ s) (h8 : s ≤ 8) (hr : inR a s) (v : Int64) :
    HX11_store r a sz v Mc ∧ HX93_keep c a sz v Mt ∧ RelRam r c (GX11_store r a sz v Mc) (GX93_keep c a sz v Mt) ∧ StOk r a (ul a - 2147483648) s v Mc (GX11_store r a sz v Mc) := by
  obtain ⟨o, ho⟩ : ∃ o, ul a = 2147483648 + o := ⟨ul a - 2147483648, by unfold inR at hr; omega⟩
  have hb : o + s ≤ 4194304 := by unfold inR at hr; omega
  obtain ⟨a1, a2, a3⟩ := X11_store R.1 ho hs h1 h8 hb v
  have I := R.2.1
  obtain ⟨b1, b2⟩ := X93_keep (v := v) I.1 I.2.2.1 hs ho h8 hb
  have hne := tr_ne I.1 I.2.1 I.2.2.1
  obtain ⟨c1, c2⟩ := kpM_tri I ho v s h8 hb
  refine ⟨a1, b1, ?_, ?_⟩
  · rw [a2, b2]
    exact rel_st R ho h1 h8 hb a3 (st_202 R ho hs h1 h8 hb) c1 (kpM_R s) (fun i => kpM_b hne s h8 i) (fun p hp => kpM_p hne hp s) c2
  · rw [a2, show ul a - 2147483648 = o from by omega]
    exact a3
/-- a byte alone -/
theorem rel_put (R : RelRam r c Mc Mt) {a : Int64} (hr : inR a 1) {v : Int64} {u : Int32} (hv : ∀ i, i < 8 → ib u i = lb v i) :
    HX11_store r a (Int32.ofInt 1) v Mc ∧ HX93_put c a u Mt ∧ RelRam r c (GX11_store r a (Int32.ofInt 1) v Mc) (GX93_put c a u Mt) ∧ StOk r a (ul a - 2147483648) 1 v Mc (GX11_store r a (Int32.ofInt 1) v Mc) := by
  obtain ⟨o, ho⟩ : ∃ o, ul a = 2147483648 + o := ⟨ul a - 2147483648, by unfold inR at hr; omega⟩
  have hb : o + 1 ≤ 4194304 := by unfold inR at hr; omega
  obtain ⟨a1, a2, a3⟩ := X11_store R.1 ho (sz := Int32.ofInt 1) (s := 1) rfl (by decide) (by decide) hb v
  have I := R.2.1
  obtain ⟨b1, b2⟩ := X93_put I.1 I.2.2.1 ho (by omega) u
  have hne := tr_ne I.1 I.2.1 I.2.2.1
  obtain ⟨c1, c2⟩ := pbM_tri I ho (by omega) u
  refine ⟨a1, b1, ?_, ?_⟩
  · rw [a2, b2]
    refine rel_st R ho (by decide) (by decide) hb a3 (st_202 R ho rfl (by decide) (by decide) hb) c1 rfl (fun i => ?_) (fun p hp => ?_) c2
    · rw [pbM_b hne]
      by_cases q : 8 * o ≤ i ∧ i < 8 * o + 8
      · rw [if_pos q, if_pos (by omega), hv _ (by omega)]
      · rw [if_neg q, if_neg (by omega)]
    · rw [pbM_p hne u p hp]
      have e0 : a + (nI 0).toInt64 = a := ul_inj (by rw [ul_add]; have := ul_lt a; rw [show ul (nI 0).toInt64 = 0 from rfl]; omega)
      refine fi_c ⟨fun q => ⟨0, by decide, by rw [e0]; exact q⟩, fun ⟨j, hj, q⟩ => ?_⟩
      rw [show j = 0 from by omega, e0] at q
      exact q
  · rw [a2, show ul a - 2147483648 = o from by omega]
    exact a3
end Wr
