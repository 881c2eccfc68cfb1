/-! the component's memory is read -/
abbrev cpg (M : FM) (r k : Nat) : Nat := M.2.2 3 (M.2.2 203 r 0) k
/-- bit n of memory, the component's -/
def cmb (M : FM) (r n : Nat) : Bool := if cpg M r (n / 32768) = 0 then false else lb (M.2.1 3 (M.2.2 201 (cpg M r (n / 32768)) 0) (n / 64 % 512)) (n % 64)
section Ld
variable {r : Nat} {M : FM} {a : Int64} {o : Nat}
theorem X11_pageOf (ho : ul a = 2147483648 + o) (hb : o < 4194304) (M : FM) : ∃ p, GX11_pageOf a M = (p, M) ∧ ui p = o / 4096 := by
  refine ⟨_, rfl, ?_⟩
  have e : ul (a - Int64.ofInt 2147483648) = o := by
    rw [ul_sub, ho, show ul (Int64.ofInt 2147483648) = 2147483648 from rfl]
    omega
  rw [ui_low, ul_sar0 _ _ (by omega), e, show 2 ^ (ui (Int32.ofInt 12) % 64) = 4096 from rfl]
  omega
theorem X11_placeOf (ho : ul a = 2147483648 + o) (hb : o < 4194304) (M : FM) : ∃ p, GX11_placeOf a M = (p, M) ∧ ui p = o % 4096 := by
  refine ⟨_, rfl, ?_⟩
  rw [ui_low, ul_and, ho, show ul (Int64.ofInt 4095) = 2 ^ 12 - 1 from rfl, Nat.and_two_pow_sub_one_eq_mod]
  omega
theorem J5_min (x y : Int32) (hx : ui x < 2147483648) (hy : ui y < 2147483648) (M : FM) : ∃ z, GJ5_min x y M = (z, M) ∧ ui z = min (ui x) (ui y) ∧ (z = x ∨ z = y) := by
  simp only [GJ5_min_10, GJ5_min_0, GJ5_min, GJ5_min_2]
  by_cases h : y < x
  · rw [fi_pos h]
    rw [i_lt hy hx] at h
    exact ⟨y, rfl, by omega, Or.inr rfl⟩
  · rw [fi_neg h]
    rw [i_lt hy hx] at h
    exact ⟨x, rfl, by omega, Or.inl rfl⟩
theorem cpg_is (T : Ty M) (n : fm_is M 73 73 r = true) {k : Nat} (hk : k < 1024) (h : cpg M r k ≠ 0) : fm_is M 72 72 (cpg M r k) = true := by
  have := tF_920 (i := nI k) T.1 (tN_203 T.1 n) (in_nI (tL_203 T.1 n) hk (by decide))
  rw [nI_clamp (by omega)] at this
  exact this h
theorem cmb_0 {n : Nat} (h : cpg M r (n / 32768) = 0) : cmb M r n = false := if_pos h
theorem cmb_1 {n : Nat} (h : ¬ cpg M r (n / 32768) = 0) : cmb M r n = lb (M.2.1 3 (M.2.2 201 (cpg M r (n / 32768)) 0) (n / 64 % 512)) (n % 64) := if_neg h
/-- a part of a page: what it has, or nothing -/
theorem pg_part (T : Ty M) (n : fm_is M 73 73 r = true) {k at_ s : Nat} {p sz : Int32} (hk : k < 1024) (hp : ui p = at_) (hs : ui sz = s) (h1 : 1 ≤ s) (h8 : s ≤ 8) (hb : at_ + s ≤ 4096) (h : ¬ cpg M r k = 0) :
    HX91_get (cpg M r k) p sz M ∧ ∃ v, GX91_get (cpg M r k) p sz M = (v, M) ∧ ∀ i, lb v i = (decide (i < 8 * s) && cmb M r (32768 * k + 8 * at_ + i)) := by
  obtain ⟨g1, v, g2, g3⟩ := X91_get T (cpg_is T n hk h) hp hs h1 h8 hb
  refine ⟨g1, v, g2, fun i => ?_⟩
  rw [g3]
  by_cases hi : i < 8 * s
  · rw [decide_eq_true hi, Bool.true_and, Bool.true_and]
    have e : (32768 * k + 8 * at_ + i) / 32768 = k := by omega
    rw [cmb_1 (by rw [e]; exact h), e, show (32768 * k + 8 * at_ + i) / 64 % 512 = (8 * at_ + i) / 64 from by omega, show (32768 * k + 8 * at_ + i) % 64 = (8 * at_ + i) % 64 from by omega]
  · rw [decide_eq_false hi, Bool.false_and, Bool.false_and]
theorem X11_load (T : Ty M) (n : fm_is M 73 73 r = true) (ho : ul a = 2147483648 + o) {s : Nat} {sz : Int32} (hs : ui sz = s) (h1 : 1 ≤ s) (h8 : s ≤ 8) (hb : o + s ≤ 4194304) :
    HX11_load r a sz M ∧ ∃ v, GX11_load r a sz M = (v, M) ∧ ∀ i, lb v i = (decide (i < 8 * s) && cmb M r (8 * o + i)) := by
  obtain ⟨pl, p1, p2⟩ := X11_placeOf ho (by omega) M
  obtain ⟨pg, q1, q2⟩ := X11_pageOf ho (by omega) M
  have e4 : ui (Int32.ofInt 4096 - pl) = 4096 - o % 4096 := by
    rw [ui_sub, p2, show ui (Int32.ofInt 4096) = 4096 from rfl]
    omega
  obtain ⟨fs, m1, m2, m3⟩ := J5_min sz (Int32.ofInt 4096 - pl) (by omega) (by omega) M
  rw [hs, e4] at m2
  have hk : o / 4096 < 1024 := by omega
  have cp : pg.toNatClampNeg = o / 4096 := by rw [cl_ui (by omega), q2]
  have ip := in_u (i := pg) (tL_203 T.1 n) (by omega) (by decide)
  -- what stands in the first page
  have k1 : ∃ v1, (∀ i, lb v1 i = (decide (i < 8 * ui fs) && cmb M r (8 * o + i))) ∧ (cpg M r (o / 4096) = 0 → v1 = Int64.ofInt 0) ∧ (¬ cpg M r (o / 4096) = 0 → HX91_get (cpg M r (o / 4096)) pl fs M ∧ GX91_get (cpg M r (o / 4096)) pl fs M = (v1, M)) := by
    by_cases h : cpg M r (o / 4096) = 0
    · refine ⟨Int64.ofInt 0, fun i => ?_, fun _ => rfl, fun q => absurd h q⟩
      rw [lb_0]
      by_cases hi : i < 8 * ui fs
      · rw [cmb_0 (by rw [show (8 * o + i) / 32768 = o / 4096 from by omega]; exact h), Bool.and_false]
      · rw [decide_eq_false hi, Bool.false_and]
    · obtain ⟨g1, v, g2, g3⟩ := pg_part T n (sz := fs) (s := ui fs) hk p2 rfl (by omega) (by omega) (by omega) h
      refine ⟨v, fun i => ?_, fun q => absurd q h, fun _ => ⟨g1, g2⟩⟩
      rw [g3, show 32768 * (o / 4096) + 8 * (o % 4096) + i = 8 * o + i from by omega]
  obtain ⟨v1, hv1, hz, hg⟩ := k1
  have k2 : HX11_load_47 r a sz fs v1 M ∧ ∃ v, GX11_load_47 r a sz fs v1 M = (v, M) ∧ ∀ i, lb v i = (decide (i < 8 * s) && cmb M r (8 * o + i)) := by
    unfold HX11_load_47 GX11_load_47 GX11_load_100
    dsimp only
    by_cases hc : fs = sz
    · rw [fi_pos hc]
      refine ⟨⟨fun _ => trivial, fun q => absurd hc q⟩, v1, rfl, fun i => ?_⟩
      rw [hv1, hc, hs]
    · have hf : ui fs = 4096 - o % 4096 := by
        rcases m3 with m3 | m3
        · exact absurd m3 hc
        · rw [m3, e4]
      have hlt : ui fs < s := by
        have : ui fs ≠ s := fun e => hc (ui_inj (by rw [e, hs]))
        omega
      have ep : ui (pg + Int32.ofInt 1) = o / 4096 + 1 := by
        rw [ui_add, q2, show ui (Int32.ofInt 1) = 1 from rfl]
        omega
      have cp2 : (pg + Int32.ofInt 1).toNatClampNeg = o / 4096 + 1 := by rw [cl_ui (by omega), ep]
      have ip2 := in_u (i := pg + Int32.ofInt 1) (tL_203 T.1 n) (by omega) (by decide)
      have er : ui (sz - fs) = s - ui fs := by
        rw [ui_sub, hs]
        omega
      rw [fi_neg hc, q1]
      dsimp only
      rw [cp2]
      by_cases h : cpg M r (o / 4096 + 1) = 0
      · rw [fi_pos h]
        refine ⟨⟨fun q => absurd q hc, fun _ => ⟨ip2, fun _ => trivial, fun q => absurd h q⟩⟩, v1, rfl, fun i => ?_⟩
        rw [hv1]
        by_cases hi : i < 8 * ui fs
        · rw [decide_eq_true hi, decide_eq_true (by omega)]
        · rw [decide_eq_false hi, Bool.false_and]
          by_cases hi2 : i < 8 * s
          · rw [cmb_0 (by rw [show (8 * o + i) / 32768 = o / 4096 + 1 from by omega]; exact h), Bool.and_false]
          · rw [decide_eq_false hi2, Bool.false_and]
      · obtain ⟨g1, v, g2, g3⟩ := pg_part T n (k := o / 4096 + 1) (p := Int32.ofInt 0) (at_ := 0) (sz := sz - fs) (s := s - ui fs) (by omega) rfl er (by omega) (by omega) (by omega) h
        rw [fi_neg h, g2]
        refine ⟨⟨fun q => absurd q hc, fun _ => ⟨ip2, fun q => absurd q h, fun _ => ⟨g1, trivial⟩⟩⟩, _, rfl, fun i => ?_⟩
        rw [lb_or, lb_shl _ _ (k := 8 * ui fs) (by rw [ui_mul, show ui (Int32.ofInt 8) = 8 from rfl]; omega), hv1, g3]
        by_cases hi : i < 8 * ui fs
        · rw [decide_eq_true hi, decide_eq_true (show i < 8 * s by omega), decide_eq_false (show ¬ 8 * ui fs ≤ i by omega)]
          simp
        · rw [decide_eq_false hi, decide_eq_true (show 8 * ui fs ≤ i by omega)]
          by_cases hi2 : i < 8 * s
          · rw [decide_eq_true hi2, decide_eq_true (show i < 64 by omega), decide_eq_true (show i - 8 * ui fs < 8 * (s - ui fs) by omega), show 32768 * (o / 4096 + 1) + 8 * 0 + (i - 8 * ui fs) = 8 * o + i from by omega]
            simp
          · rw [decide_eq_false hi2, decide_eq_false (show ¬ i - 8 * ui fs < 8 * (s - ui fs) by omega)]
            simp
  unfold HX11_load HX11_load_0 GX11_load GX11_load_0
  rw [p1]
  dsimp only
  rw [m1]
  dsimp only
  rw [q1]
  dsimp only
  rw [cp]
  by_cases h : cpg M r (o / 4096) = 0
  · rw [fi_pos h]
    rw [hz h] at k2
    exact ⟨⟨ip, fun _ => k2.1, fun q => absurd h q⟩, k2.2⟩
  · obtain ⟨g1, g2⟩ := hg h
    rw [fi_neg h, g2]
    exact ⟨⟨ip, fun q => absurd q h, fun _ => ⟨g1, k2.1⟩⟩, k2.2⟩
end Ld
