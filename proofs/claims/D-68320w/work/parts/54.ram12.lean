/-! atomics: both memories -/
section Am
variable {r c : Nat} {Mc Mt : FM}
theorem rel_atomic (R : RelRam r c Mc Mt) (C : ChI r Mc) {ph k sz : Int32} {p s : Nat} (hp : ui ph = p) (hp4 : p < 4) (hs : ui sz = s) (hs48 : s = 4 ∨ s = 8) {a : Int64} (hr : inR a s) (hk : knd k ∨ k = Int32.ofInt 2 ∨ k = Int32.ofInt 3) (w : Int64) :
    HX11_atomic r ph k a sz w Mc ∧ HX93_atomic c ph k a sz w Mt ∧ (GX11_atomic r ph k a sz w Mc).1 = (GX93_atomic c ph k a sz w Mt).1 ∧
    RelRam r c (GX11_atomic r ph k a sz w Mc).2 (GX93_atomic c ph k a sz w Mt).2 ∧ Evo r 1 Mc (GX11_atomic r ph k a sz w Mc).2 := by
  have h1 : 1 ≤ s := by omega
  have h8 : s ≤ 8 := by omega
  have cp : ph.toNatClampNeg = p := by rw [cl_ui (by omega), hp]
  obtain ⟨v, l1, l2, l3, l4⟩ := rel_load R hs h1 h8 hr
  have I1 := R.1
  have I2 := R.2.1
  have T1 := I1.1
  have n1 := I1.2.2.1
  have T2 := I2.1
  have n2 := I2.2.2.1
  have ip1 := in_u (i := ph) (tL_205 T1.1 n1) (by omega) (by decide)
  have ip2 := in_u (i := ph) (tL_389 T2.1 n2) (by omega) (by decide)
  have ip3 := in_u (i := ph) (tL_390 T2.1 n2) (by omega) (by decide)
  have ip4 := in_u (i := ph) (tL_392 T2.1 n2) (by omega) (by decide)
  have ha1 : inR a 1 := by unfold inR at *; omega
  have hr' := hr
  unfold inR at hr'
  have hw : ui ((a - Int64.ofInt 2147483648) / Int64.ofInt 8).toInt32 = (ul a - 2147483648) / 8 := by
    have e : ul (a - Int64.ofInt 2147483648) = ul a - 2147483648 := by
      rw [ul_sub, show ul (Int64.ofInt 2147483648) = 2147483648 from rfl]
      omega
    rw [ui_low, l_div (by omega) (by decide), e, show ul (Int64.ofInt 8) = 8 from rfl]
    omega
  have ip5 := in_u (i := ((a - Int64.ofInt 2147483648) / Int64.ofInt 8).toInt32) (tL_391 T2.1 n2) (by omega) (by decide)
  have cw : ((a - Int64.ofInt 2147483648) / Int64.ofInt 8).toInt32.toNatClampNeg = (ul a - 2147483648) / 8 := by rw [cl_ui (by omega), hw]
  have hz0 : sz ≠ Int32.ofInt 0 := fun e => by
    rw [e, show ui (Int32.ofInt 0) = 0 from rfl] at hs
    omega
  have ev0 : ∀ {N : FM}, N.2.1 3 = Mc.2.1 3 → N.2.2 = Mc.2.2 → Evo r 1 Mc N := fun {N} e1 e2 => evo_w (evo_same (fun k _ => by unfold cwr; rw [e1, e2]) (fun i _ => by unfold cmb cpg; rw [e1, e2])) (by decide)
  unfold HX11_atomic HX11_atomic_0 HX93_atomic HX93_atomic_0 GX11_atomic GX11_atomic_0 GX93_atomic GX93_atomic_0
  rw [l2, l4]
  dsimp only
  rw [X11_signed, X93_signed]
  dsimp only
  rw [cp]
  by_cases k2 : k = Int32.ofInt 2
  · rw [fi_pos k2, fi_pos k2]
    have e : fm_sI (fm_sI (fm_sL Mt 3 (Mt.2.2 389 c 0) p a) 3 (Mt.2.2 390 c 0) p sz) 3 (Mt.2.2 392 c 0) p ((fm_sI (fm_sL Mt 3 (Mt.2.2 389 c 0) p a) 3 (Mt.2.2 390 c 0) p sz).1 3 (Mt.2.2 391 c 0) ((ul a - 2147483648) / 8)) = tmk c a sz p Mt := by
      unfold tmk
      congr 1
      rw [rI, if_neg (fun z => sf_ne I2.2.1 (sS_391 I2.2.1 n2) (sS_390 I2.2.1 n2) (lo := 901) rfl (tN_391 T2.1 n2) (by decide) z.2.1)]
      rfl
    rw [cw]
    refine ⟨⟨ip1, l1, fun _ => trivial, fun q => absurd k2 q⟩, ⟨l3, fun _ => ⟨ip2, ip3, ip5, ip4, trivial⟩, fun q => absurd k2 q⟩, rfl, ?_, ev0 rfl rfl⟩
    show RelRam r c (GX12_make (rsv Mc r p) a sz Mc) (fm_sI (fm_sI (fm_sL Mt 3 (Mt.2.2 389 c 0) p a) 3 (Mt.2.2 390 c 0) p sz) 3 (Mt.2.2 392 c 0) p ((fm_sI (fm_sL Mt 3 (Mt.2.2 389 c 0) p a) 3 (Mt.2.2 390 c 0) p sz).1 3 (Mt.2.2 391 c 0) ((ul a - 2147483648) / 8)))
    rw [e]
    exact rel_make R hp4 hz0 ha1
  rw [fi_neg k2, fi_neg k2]
  by_cases k3 : k = Int32.ofInt 3
  · rw [fi_pos k3, fi_pos k3]
    have D := rel_drop R hp4
    have dr : (GX12_drop (rsv Mc r p) Mc).2 = fm_sI Mc 208 (rsv Mc r p) 0 (Int32.ofInt 0) := by
      unfold GX12_drop GX12_drop_0 GX12_drop_12
      by_cases q : Mc.1 208 (rsv Mc r p) 0 ≤ 0
      · rw [fi_pos q]
      · rw [fi_neg q]
    have is : GX12_is (rsv Mc r p) a sz Mc = (bz (Mc.1 208 (rsv Mc r p) 0 = sz ∧ Mc.2.1 207 (rsv Mc r p) 0 = a), Mc) := by
      unfold GX12_is GX12_is_0 GX12_is_21 GX12_is_22
      by_cases q1 : Mc.1 208 (rsv Mc r p) 0 = sz
      · rw [fi_pos q1]
        by_cases q2 : lg_cmp (Mc.2.1 207 (rsv Mc r p) 0) a = 0
        · rw [fi_pos q2, bz_t ⟨q1, (lg_cmp_eq _ _).mp q2⟩]
        · rw [fi_neg q2, bz_f (fun z => q2 ((lg_cmp_eq _ _).mpr z.2))]
      · rw [fi_neg q1, bz_f (fun z => q1 z.1)]
    have good : (Mc.1 208 (rsv Mc r p) 0 = sz ∧ Mc.2.1 207 (rsv Mc r p) 0 = a) ↔ (lg_cmp (Mt.2.1 3 (Mt.2.2 389 c 0) p) a = 0 ∧ Mt.1 3 (Mt.2.2 390 c 0) p = sz) := by
      rw [lg_cmp_eq]
      rcases R.2.2.2.2.2 p hp4 with ⟨s1, s2⟩ | ⟨s1, s2, s3, s4⟩
      · constructor
        · rintro ⟨q, _⟩
          exact absurd (q.symm.trans s1) hz0
        · rintro ⟨q, _⟩
          rw [s2] at q
          rw [← q] at ha1
          exact absurd ha1.1 (by decide)
      · constructor
        · rintro ⟨q1, q2⟩
          exact ⟨s3.symm.trans q2, s1.symm.trans q1⟩
        · rintro ⟨q1, q2⟩
          exact ⟨s1.trans q2, s3.trans q1⟩
    have ID := D.2.1
    have h113 : ∀ {g : Int32}, g = 0 → HX93_atomic_113 c ph a sz w g Mt ∧ GX93_atomic_113 c ph a sz w g Mt = (Int64.ofInt 1, fm_sL Mt 3 (Mt.2.2 389 c 0) p (Int64.ofInt 0)) := fun {g} hg => by
      unfold HX93_atomic_113 GX93_atomic_113 GX93_atomic_177 GX93_atomic_187
      dsimp only
      rw [fi_pos hg, fi_pos hg, cp]
      exact ⟨⟨ip2, fun _ => trivial, fun q => absurd hg q⟩, rfl⟩
    rw [show Mc.2.2 3 (Mc.2.2 205 r 0) p = rsv Mc r p from rfl, is]
    dsimp only
    rw [dr]
    by_cases hg : Mc.1 208 (rsv Mc r p) 0 = sz ∧ Mc.2.1 207 (rsv Mc r p) 0 = a
    · obtain ⟨g1, g2⟩ := good.mp hg
      obtain ⟨t1, t2, t3, t4⟩ := rel_store D hs h1 h8 hr w
      have hb1 : ¬ bz (Mc.1 208 (rsv Mc r p) 0 = sz ∧ Mc.2.1 207 (rsv Mc r p) 0 = a) = 0 := fun z => bz_0.mp z hg
      have q113 : HX93_atomic_113 c ph a sz w (Int32.ofInt 1) Mt ∧ GX93_atomic_113 c ph a sz w (Int32.ofInt 1) Mt = (Int64.ofInt 0, GX93_keep c a sz w (fm_sL Mt 3 (Mt.2.2 389 c 0) p (Int64.ofInt 0))) := by
        have hseen : Mt.1 3 (Mt.2.2 391 c 0) ((ul a - 2147483648) / 8) = Mt.1 3 (Mt.2.2 392 c 0) p := by
          have ea := (lg_cmp_eq _ _).mp g1
          rcases I2.2.2.2.2 p hp4 with z | ⟨z1, z2⟩
          · rw [ea] at z
            rw [z] at ha1
            exact absurd ha1.1 (by decide)
          · rw [ea] at z2
            exact z2
        have ek : fm_sL (fm_sL Mt 3 (Mt.2.2 389 c 0) p (Int64.ofInt 0)) 393 c 0 ((fm_sL Mt 3 (Mt.2.2 389 c 0) p (Int64.ofInt 0)).2.1 393 c 0) = fm_sL Mt 3 (Mt.2.2 389 c 0) p (Int64.ofInt 0) := by
          refine Prod.ext rfl (Prod.ext ?_ rfl)
          funext f b i
          rw [rL]
          by_cases z : f = 393 ∧ b = c ∧ i = 0
          · rw [if_pos z]
            obtain ⟨rfl, rfl, rfl⟩ := z
            rfl
          · rw [if_neg z]
        unfold HX93_atomic_113 GX93_atomic_113 HX93_atomic_165 GX93_atomic_165 GX93_atomic_177 GX93_atomic_187
        dsimp only
        rw [cp, cw]
        have hs2 : (fm_sL Mt 3 (Mt.2.2 389 c 0) p (Int64.ofInt 0)).1 3 ((fm_sL Mt 3 (Mt.2.2 389 c 0) p (Int64.ofInt 0)).2.2 391 c 0) ((ul a - 2147483648) / 8) = (fm_sL Mt 3 (Mt.2.2 389 c 0) p (Int64.ofInt 0)).1 3 ((fm_sL Mt 3 (Mt.2.2 389 c 0) p (Int64.ofInt 0)).2.2 392 c 0) p := hseen
        rw [fi_neg (c := Int32.ofInt 1 = 0) (by decide), fi_pos hs2, fi_neg (c := Int32.ofInt 1 = 0) (by decide), ek]
        exact ⟨⟨ip2, fun q => absurd q (by decide), fun _ => ⟨ip5, ip4, fun _ => ⟨t2, trivial⟩, fun q => absurd hs2 q⟩⟩, rfl⟩
      rw [fi_neg hb1, fi_pos g1, fi_pos g2, q113.2]
      unfold GX11_atomic_73 GX11_atomic_83
      rw [fi_neg hb1]
      refine ⟨⟨ip1, l1, fun q => absurd q k2, fun _ => ⟨fun _ => ⟨fun q => absurd q hb1, fun _ => ⟨t1, trivial⟩⟩, fun q => absurd k3 q⟩⟩, ⟨l3, fun q => absurd q k2, fun _ => ⟨fun _ => ⟨ip2, fun _ => ⟨ip3, fun _ => q113.1, fun q => absurd g2 q⟩, fun q => absurd g1 q⟩, fun q => absurd k3 q⟩⟩, rfl, t3, ?_⟩
      have e9 := evo_st (r := r) (o := ul a - 2147483648) h1 h8 (by omega) t4
      have e8 : Evo r 0 Mc (fm_sI Mc 208 (rsv Mc r p) 0 (Int32.ofInt 0)) := evo_same (fun k _ => rfl) (fun i _ => rfl)
      exact evo_t e8 e9
    · have hb0 : bz (Mc.1 208 (rsv Mc r p) 0 = sz ∧ Mc.2.1 207 (rsv Mc r p) 0 = a) = 0 := bz_0.mpr hg
      have h112 : HX93_atomic_112 c ph a sz w Mt ∧ GX93_atomic_112 c ph a sz w Mt = (Int64.ofInt 1, fm_sL Mt 3 (Mt.2.2 389 c 0) p (Int64.ofInt 0)) := h113 rfl
      rw [fi_pos hb0]
      unfold GX11_atomic_73 GX11_atomic_83
      rw [fi_pos hb0]
      have hT : (fi (lg_cmp (Mt.2.1 3 (Mt.2.2 389 c 0) p) a = 0) (fi (Mt.1 3 (Mt.2.2 390 c 0) p = sz) (GX93_atomic_113 c ph a sz w (Int32.ofInt 1) Mt) (GX93_atomic_112 c ph a sz w Mt)) (GX93_atomic_112 c ph a sz w Mt)) = (Int64.ofInt 1, fm_sL Mt 3 (Mt.2.2 389 c 0) p (Int64.ofInt 0)) := by
        by_cases q1 : lg_cmp (Mt.2.1 3 (Mt.2.2 389 c 0) p) a = 0
        · rw [fi_pos q1, fi_neg (fun z => hg (good.mpr ⟨q1, z⟩)), h112.2]
        · rw [fi_neg q1, h112.2]
      rw [hT]
      exact ⟨⟨ip1, l1, fun q => absurd q k2, fun _ => ⟨fun _ => ⟨fun _ => trivial, fun q => absurd hb0 q⟩, fun q => absurd k3 q⟩⟩, ⟨l3, fun q => absurd q k2, fun _ => ⟨fun _ => ⟨ip2, fun q1 => ⟨ip3, fun q2 => absurd (good.mpr ⟨q1, q2⟩) hg, fun _ => h112.1⟩, fun _ => h112.1⟩, fun q => absurd k3 q⟩⟩, rfl, D, ev0 rfl rfl⟩
  rw [fi_neg k3, fi_neg k3]
  have hk' : knd k := hk.resolve_right (fun q => q.elim k2 k3)
  rw [X11_signed, X93_signed]
  dsimp only
  rw [X93_changed hk']
  dsimp only
  obtain ⟨d1, d2⟩ := dof_c C hk' (fi (sz = Int32.ofInt 4) v.toInt32.toInt64 v) (fi (sz = Int32.ofInt 4) w.toInt32.toInt64 w)
  have hk29 : ui k < 29 := by
    rcases hk' with rfl | rfl | rfl | rfl | rfl | rfl | rfl | rfl | rfl <;> decide
  have ik := in_u (i := k) (tL_206 T1.1 n1) (by omega) (by decide)
  have d2' : (fi (fm_is Mc 68 68 (chO Mc r k.toNatClampNeg) = true) (GX16_of (chO Mc r k.toNatClampNeg) (fi (sz = Int32.ofInt 4) v.toInt32.toInt64 v) (fi (sz = Int32.ofInt 4) w.toInt32.toInt64 w) Mc) (fi (fm_is Mc 69 69 (chO Mc r k.toNatClampNeg) = true) (GX17_of (chO Mc r k.toNatClampNeg) (fi (sz = Int32.ofInt 4) v.toInt32.toInt64 v) (fi (sz = Int32.ofInt 4) w.toInt32.toInt64 w) Mc) (fi (fm_is Mc 70 70 (chO Mc r k.toNatClampNeg) = true) (GX14_of (chO Mc r k.toNatClampNeg) (fi (sz = Int32.ofInt 4) v.toInt32.toInt64 v) (fi (sz = Int32.ofInt 4) w.toInt32.toInt64 w) Mc) (GX15_of (chO Mc r k.toNatClampNeg) (fi (sz = Int32.ofInt 4) v.toInt32.toInt64 v) (fi (sz = Int32.ofInt 4) w.toInt32.toInt64 w) Mc)))) = (chg k (fi (sz = Int32.ofInt 4) v.toInt32.toInt64 v) (fi (sz = Int32.ofInt 4) w.toInt32.toInt64 w), Mc) := d2
  rw [d2']
  obtain ⟨t1, t2, t3, t4⟩ := rel_store R hs h1 h8 hr (chg k (fi (sz = Int32.ofInt 4) v.toInt32.toInt64 v) (fi (sz = Int32.ofInt 4) w.toInt32.toInt64 w))
  have dd : (fm_is Mc 68 68 (chO Mc r k.toNatClampNeg) = true → True) ∧ (¬ fm_is Mc 68 68 (chO Mc r k.toNatClampNeg) = true → (fm_is Mc 69 69 (chO Mc r k.toNatClampNeg) = true → True) ∧ (¬ fm_is Mc 69 69 (chO Mc r k.toNatClampNeg) = true → (fm_is Mc 70 70 (chO Mc r k.toNatClampNeg) = true → True) ∧ (¬ fm_is Mc 70 70 (chO Mc r k.toNatClampNeg) = true → (fm_is Mc 71 71 (chO Mc r k.toNatClampNeg) = true ∧ True)))) :=
    ⟨fun _ => trivial, fun q1 => ⟨fun _ => trivial, fun q2 => ⟨fun _ => trivial, fun q3 => ⟨fm_up (fm_up (fm_up d1 q1) q2) q3, trivial⟩⟩⟩⟩
  exact ⟨⟨ip1, l1, fun q => absurd q k2, fun _ => ⟨fun q => absurd q k3, fun _ => ⟨ik, dd, t1, trivial⟩⟩⟩, ⟨l3, fun q => absurd q k2, fun _ => ⟨fun q => absurd q k3, fun _ => ⟨t2, trivial⟩⟩⟩, rfl, t3, evo_st h1 h8 (by omega) t4⟩
end Am
