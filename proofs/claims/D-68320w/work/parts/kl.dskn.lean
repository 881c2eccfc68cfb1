/-! disks: working, both sides -/
set_option maxRecDepth 100000
section Wo
variable {d x dk q rq b r c : Nat} {Mc Mt M : FM}
theorem rel_fail (D : RelD d x dk q rq b r c Mc Mt) : RelD d x dk q rq b r c (GX18_fail d Mc) (GX95_breakDown b Mt) ∧ RamQ r Mc (GX18_fail d Mc) := by
  obtain ⟨d1, q1, _⟩ := set65 D (v := Mc.1 65 d 0 ||| Int32.ofInt 64)
  obtain ⟨d2, q2, _⟩ := set66 d1 (v := (fm_sI Mc 65 d 0 (Mc.1 65 d 0 ||| Int32.ofInt 64)).1 66 d 0 ||| Int32.ofInt 2)
  have D0 := D
  obtain ⟨R, C, TT, size, tk, gv, ⟨v1, v2, v3, v4⟩, _⟩ := D
  have e1 : GX18_fail d Mc = fm_sI (fm_sI Mc 65 d 0 (Mc.1 65 d 0 ||| Int32.ofInt 64)) 66 d 0 ((fm_sI Mc 65 d 0 (Mc.1 65 d 0 ||| Int32.ofInt 64)).1 66 d 0 ||| Int32.ofInt 2) := rfl
  have e2 : GX95_breakDown b Mt = fm_sI (fm_sI Mt 333 b 0 (Mc.1 65 d 0 ||| Int32.ofInt 64)) 332 b 0 ((fm_sI Mc 65 d 0 (Mc.1 65 d 0 ||| Int32.ofInt 64)).1 66 d 0 ||| Int32.ofInt 2) := by
    unfold GX95_breakDown GX95_breakDown_0
    dsimp only
    rw [← v3, oI (f := 65) (f' := 66) (fun z => absurd z.1 (by decide)), v4, oI (f := 333) (f' := 332) (fun z => absurd z.1 (by decide))]
  rw [e1, e2]
  exact ⟨d2, ramQ_t q1 q2⟩
theorem fail_67 : (GX18_fail d M).1 67 d 0 = M.1 67 d 0 := by
  unfold GX18_fail GX18_fail_0
  dsimp only
  rw [oI (fun z => absurd z.1 (by decide)), oI (fun z => absurd z.1 (by decide))]
/-- how many requests stand ahead -/
def ahd (k2 tk : Nat) : Nat := (k2 + 65536 - tk) % 65536
theorem ah_e {k2 tk : Nat} (h2 : k2 < 65536) (ht : tk < 65536) : (nI k2 - nI tk) &&& Int32.ofInt 65535 = nI (ahd k2 tk) := by
  unfold ahd
  refine ui_inj ?_
  rw [ui_and, ui_sub, ui_nI, ui_nI, ui_nI, show ui (Int32.ofInt 65535) = 2 ^ 16 - 1 from rfl, Nat.and_two_pow_sub_one_eq_mod]
  omega
theorem ah_lt (k2 tk : Nat) : ahd k2 tk < 65536 := Nat.mod_lt _ (by decide)
theorem n_add1 {y : Int32} {n : Nat} : (y + nI n) - y = nI n := by
  rw [Int32.add_comm]
  exact Int32.add_sub_cancel _ _
theorem b1_0 {P : Prop} (z : P) : ¬ bz P = 0 := by rw [bz_t z]; decide
theorem b0_0 {P : Prop} (z : ¬ P) : bz P = 0 := by rw [bz_f z]; rfl
theorem work_c (D : RelD d x dk q rq b r c Mc Mt) {before mk : Int32} {done tk : Nat} (h67 : Mc.1 67 d 0 = before + nI done) (hd : done ≤ 64) (ht : Mc.1 76 q 0 = nI tk) (htk : tk < 65536) {of : Int64} (ho : Mc.2.1 74 q 0 = of) :
    let k1 := ul (nuC x Mc of 2); let ah := ahd (ul (nuC x Mc (of + Int64.ofInt 2) 2)) tk
    ((inR of 4 → ¬ (ah = 0 ∨ done = 64) → HX18_serve d (nI ah) Mc) → HX18_work_39 d before mk (Int32.ofInt 1) Mc) ∧
    GX18_work_39 d before mk (Int32.ofInt 1) Mc = fi (inR of 4) (fi (ah = 0 ∨ done = 64) (.inl (d, before, nI k1, Int32.ofInt 0, Mc)) (fi ((GX18_serve d (nI ah) Mc).1 = 0) (.inl (d, before, nI k1, Int32.ofInt 0, GX18_fail d (GX18_serve d (nI ah) Mc).2)) (.inl (d, before, nI k1, Int32.ofInt 1, (GX18_serve d (nI ah) Mc).2)))) (.inl (d, before, mk, Int32.ofInt 0, GX18_fail d Mc)) := by
  intro k1 ah
  obtain ⟨R, C, TT, _⟩ := D
  obtain ⟨nx, ndk, nq, nrq⟩ := dk_is R.1.1 C
  obtain ⟨⟨c1, c2, c3, c4, c5⟩, ⟨c6, c7, c8⟩, _⟩ := C
  have hh := X19_has (x := x) (a := of) (b := Int64.ofInt 4) (M := Mc) c6 R.2.2.1 (by decide)
  have hh : GX19_has x of (Int64.ofInt 4) Mc = (bz (inR of 4), Mc) := hh
  by_cases hi : inR of 4
  · have i2 : inR of 2 := by unfold inR at *; omega
    have i3 : inR (of + Int64.ofInt 2) 2 := by
      unfold inR at *
      rw [ul_add, show ul (Int64.ofInt 2) = 2 from rfl]
      omega
    obtain ⟨a1, a2⟩ := nuC_e (s := 2) R.1 nx c6 i2 (by decide)
    obtain ⟨a3, a4⟩ := nuC_e (s := 2) R.1 nx c6 i3 (by decide)
    have a5 : ul (nuC x Mc of 2) < 65536 := nuC_lt (s := 2) R.1 nx c6 i2 (by decide)
    have a6 : ul (nuC x Mc (of + Int64.ofInt 2) 2) < 65536 := nuC_lt (s := 2) R.1 nx c6 i3 (by decide)
    have a1 : HX107_number x of (Int32.ofInt 2) Mc := a1
    have a2 : GX107_number x of (Int32.ofInt 2) Mc = (nuC x Mc of 2, Mc) := a2
    have a3 : HX107_number x (of + Int64.ofInt 2) (Int32.ofInt 2) Mc := a3
    have a4 : GX107_number x (of + Int64.ofInt 2) (Int32.ofInt 2) Mc = (nuC x Mc (of + Int64.ofInt 2) 2, Mc) := a4
    have e1 : (nuC x Mc of 2).toInt32 = nI k1 := ui_inj (by rw [ui_low, ui_nI])
    have e2 : (nuC x Mc (of + Int64.ofInt 2) 2).toInt32 = nI (ul (nuC x Mc (of + Int64.ofInt 2) 2)) := ui_inj (by rw [ui_low, ui_nI])
    have e3 : ((nuC x Mc (of + Int64.ofInt 2) 2).toInt32 - Mc.1 76 q 0) &&& Int32.ofInt 65535 = nI ah := by rw [e2, ht, ah_e a6 htk]
    have hal : ah < 65536 := ah_lt _ _
    have p1 : (nI ah ≤ 0) = (ah = 0) := propext (by
      rw [show (0 : Int32) = nI 0 from rfl, n_le (by omega) (by decide)]
      omega)
    have p2 : (Int32.ofInt 64 ≤ Mc.1 67 d 0 - before) = (done = 64) := propext (by
      rw [h67, n_add1, show Int32.ofInt 64 = nI 64 from rfl, n_le (by decide) (by omega)]
      omega)
    have n1 : ¬ Int32.ofInt 1 = 0 := by decide
    constructor
    · intro hS
      unfold HX18_work_39 HX18_work_89 HX18_work_130 HX18_work_157 HX18_work_158
      dsimp only
      rw [c4, c2, ho, hh]
      dsimp only
      rw [c4, c2, ho, a2]
      dsimp only
      rw [c4, c2, ho, a4]
      dsimp only
      rw [c4, e3, p1, p2]
      refine ⟨fun z => absurd z n1, fun _ => ⟨fun z => absurd z (b1_0 hi), fun _ => ⟨a1, fun z => absurd z (b1_0 hi), fun _ => ⟨a3, fun z => absurd z (b1_0 hi), fun _ => ⟨fun _ => ⟨fun _ => trivial, fun _ => ⟨fun _ => trivial, fun z => absurd rfl z⟩⟩, fun z0 => ⟨fun _ => ⟨fun _ => trivial, fun _ => ⟨fun _ => trivial, fun z => absurd rfl z⟩⟩, fun z1 => ⟨fun _ => trivial, fun _ => ⟨fun _ => trivial, fun _ => ⟨hS hi (fun z => z.elim z0 z1), trivial⟩⟩⟩⟩⟩⟩⟩⟩⟩
    · unfold GX18_work_39
      dsimp only
      rw [fi_neg n1, c4, c2, ho, hh]
      dsimp only
      rw [fi_neg (b1_0 hi), fi_pos hi, c4, c2, ho, a2]
      dsimp only
      unfold GX18_work_89
      rw [fi_neg (b1_0 hi)]
      dsimp only
      rw [c4, c2, ho, a4]
      dsimp only
      rw [c4, e3, e1]
      unfold GX18_work_130 GX18_work_157 GX18_work_158 GX18_work_183 GX18_work_177
      rw [fi_neg (b1_0 hi), p1, p2, fi_neg (b1_0 hi), fi_neg (b1_0 hi), fi_neg n1, fi_pos (show Int32.ofInt 0 = 0 from rfl)]
      by_cases z0 : ah = 0
      · rw [fi_pos z0, fi_pos (show ah = 0 ∨ done = 64 from Or.inl z0)]
      · rw [fi_neg z0]
        by_cases z1 : done = 64
        · rw [fi_pos z1, fi_pos (show ah = 0 ∨ done = 64 from Or.inr z1)]
        · rw [fi_neg z1, fi_neg (show ¬ (ah = 0 ∨ done = 64) from fun z => z.elim z0 z1)]
          rfl
  · constructor
    · intro _
      unfold HX18_work_39 HX18_work_89 HX18_work_130 HX18_work_157 HX18_work_158
      dsimp only
      rw [c4, c2, ho, hh]
      dsimp only
      exact ⟨fun z => absurd z (by decide), fun _ => ⟨fun _ => ⟨fun _ => ⟨fun _ => ⟨fun _ => trivial, fun z => absurd (b0_0 hi) z⟩, fun z => absurd (b0_0 hi) z⟩, fun z => absurd (b0_0 hi) z⟩, fun z => absurd (b0_0 hi) z⟩⟩
    · unfold GX18_work_39
      dsimp only
      rw [fi_neg (by decide), c4, c2, ho, hh]
      dsimp only
      rw [fi_pos (b0_0 hi), fi_neg hi]
      unfold GX18_work_89 GX18_work_130 GX18_work_157 GX18_work_158 GX18_work_177 GX18_work_183
      rw [fi_pos (b0_0 hi), fi_pos (b0_0 hi), fi_pos (b0_0 hi)]
theorem work_t (D : RelD d x dk q rq b r c Mc Mt) {mt : Int64} {done tk size : Nat} (hd : done ≤ 64) (ht : Mt.1 335 b 0 = nI tk) (htk : tk < 65536) (hs : Mt.1 330 b 0 = nI size) (hs16 : size ≤ 16) {of : Int64} (ho : Mt.2.1 3 (Mt.2.2 334 b 0) 1 = of) :
    let m1 := nuC x Mc of 2; let ah := ahd (ul (nuC x Mc (of + Int64.ofInt 2) 2)) tk
    ((inR of 4 → ¬ (ah = 0 ∨ done = 64) → ¬ size < ah → HX95_oneMore b Mt) → HX95_work_34 b (nI done) mt (Int32.ofInt 1) Mt) ∧
    GX95_work_34 b (nI done) mt (Int32.ofInt 1) Mt = fi (inR of 4) (fi (ah = 0 ∨ done = 64) (.inl (b, nI done, m1, Int32.ofInt 0, Mt)) (fi (size < ah) (.inl (b, nI done, m1, Int32.ofInt 0, GX95_breakDown b Mt)) (fi ((GX95_oneMore b Mt).1 = 0) (.inl (b, nI done, m1, Int32.ofInt 0, GX95_breakDown b (GX95_oneMore b Mt).2)) (.inl (b, nI (done + 1), m1, Int32.ofInt 1, (GX95_oneMore b Mt).2))))) (.inl (b, nI done, mt, Int32.ofInt 0, GX95_breakDown b Mt)) := by
  intro m1 ah
  obtain ⟨R, C, ⟨nb, hc, _⟩, _⟩ := D
  obtain ⟨nx, ndk, nq, nrq⟩ := dk_is R.1.1 C
  obtain ⟨⟨c1, c2, c3, c4, c5⟩, ⟨c6, c7, c8⟩, _⟩ := C
  have T' := R.2.1.1
  have nc := R.2.1.2.2.1
  have hh := X95_isThere (a := of) (b := Int64.ofInt 4) (M := Mt) (by decide)
  have et : (Int64.ofInt 4 = 0 ∨ inR of (ul (Int64.ofInt 4))) = inR of 4 := propext ⟨fun z => z.elim (fun z => absurd z (by decide)) (fun z => z), Or.inr⟩
  rw [et] at hh
  have z1 : (Int32.ofInt 1).toNatClampNeg = 1 := by decide
  have n1 : ¬ Int32.ofInt 1 = 0 := by decide
  by_cases hi : inR of 4
  · have i2 : inR of 2 := by unfold inR at *; omega
    have i3 : inR (of + Int64.ofInt 2) 2 := by
      unfold inR at *
      rw [ul_add, show ul (Int64.ofInt 2) = 2 from rfl]
      omega
    obtain ⟨a1, a2⟩ := nuT_e (s := 2) T' nb nc hc i2 (by decide)
    obtain ⟨a3, a4⟩ := nuT_e (s := 2) T' nb nc hc i3 (by decide)
    rw [← nu_e (s := 2) R nx c6 nb hc i2 (by decide)] at a2
    rw [← nu_e (s := 2) R nx c6 nb hc i3 (by decide)] at a4
    have a6 : ul (nuC x Mc (of + Int64.ofInt 2) 2) < 65536 := nuC_lt (s := 2) R.1 nx c6 i3 (by decide)
    have a1 : HX95_number b of (Int32.ofInt 2) Mt := a1
    have a2 : GX95_number b of (Int32.ofInt 2) Mt = (m1, Mt) := a2
    have a3 : HX95_number b (of + Int64.ofInt 2) (Int32.ofInt 2) Mt := a3
    have a4 : GX95_number b (of + Int64.ofInt 2) (Int32.ofInt 2) Mt = (nuC x Mc (of + Int64.ofInt 2) 2, Mt) := a4
    have e2 : (nuC x Mc (of + Int64.ofInt 2) 2).toInt32 = nI (ul (nuC x Mc (of + Int64.ofInt 2) 2)) := ui_inj (by rw [ui_low, ui_nI])
    have e3 : ((nuC x Mc (of + Int64.ofInt 2) 2).toInt32 - Mt.1 335 b 0) &&& Int32.ofInt 65535 = nI ah := by rw [e2, ht, ah_e a6 htk]
    have hal : ah < 65536 := ah_lt _ _
    have p1 : (nI ah = 0) = (ah = 0) := propext ⟨fun z => by
      have := congrArg ui z
      rw [ui_nI, show ui (0 : Int32) = 0 by decide] at this
      omega, fun z => by rw [z]; rfl⟩
    have p2 : (nI done = Int32.ofInt 64) = (done = 64) := nI_e (by omega) (by decide)
    have p3 : (Mt.1 330 b 0 < nI ah) = (size < ah) := propext (by rw [hs, n_lt (by omega) (by omega)])
    constructor
    · intro hS
      unfold HX95_work_34
      dsimp only
      rw [z1, ho, hh]
      dsimp only
      rw [ho, a2]
      dsimp only
      rw [ho, a4]
      dsimp only
      rw [e3, p1, p2, p3]
      exact ⟨fun z => absurd z n1, fun _ => ⟨fun _ => trivial, fun _ => ⟨a1, a3, fun _ => trivial, fun y1 => ⟨fun _ => trivial, fun y2 => ⟨fun _ => trivial, fun y3 => ⟨hS hi (fun z => z.elim y1 y2) y3, trivial⟩⟩⟩⟩⟩⟩
    · unfold GX95_work_34
      dsimp only
      rw [fi_neg n1, z1, ho, hh]
      dsimp only
      rw [fi_neg (b1_0 hi), fi_pos hi, ho, a2]
      dsimp only
      rw [ho, a4]
      dsimp only
      rw [e3, p1, p2, p3]
      unfold GX95_work_117 GX95_work_139 GX95_work_152
      by_cases y0 : ah = 0
      · rw [fi_pos y0, fi_pos (show ah = 0 ∨ done = 64 from Or.inl y0)]
      · rw [fi_neg y0]
        by_cases y1 : done = 64
        · rw [fi_pos y1, fi_pos (show ah = 0 ∨ done = 64 from Or.inr y1)]
        · rw [fi_neg y1, fi_neg (show ¬ (ah = 0 ∨ done = 64) from fun z => z.elim y0 y1), up_b (by omega)]
  · constructor
    · intro _
      unfold HX95_work_34
      dsimp only
      rw [z1, ho, hh]
      exact ⟨fun z => absurd z n1, fun _ => ⟨fun _ => trivial, fun z => absurd (b0_0 hi) z⟩⟩
    · unfold GX95_work_34
      dsimp only
      rw [fi_neg n1, z1, ho, hh]
      dsimp only
      rw [fi_pos (b0_0 hi), fi_neg hi]
theorem or_z (y : Int32) : y ||| Int32.ofInt 0 = y := ui_inj (by rw [ui_or, show ui (Int32.ofInt 0) = 0 from rfl, Nat.or_zero])
theorem add_z {y : Int32} {n : Nat} (h : n ≤ 64) : (y + nI n = y) = (n = 0) := propext ⟨fun z => by
  have := congrArg ui z
  rw [ui_add, ui_nI] at this
  have := ui_lt y
  omega, fun z => by rw [z]; exact Int32.add_zero _⟩
/-- the end of working -/
theorem work_E (D : RelD d x dk q rq b r c Mc Mt) {before mk : Int32} {mt : Int64} {done : Nat} (h67 : Mc.1 67 d 0 = before + nI done) (hd : done ≤ 64) (hm : 0 < done → ∃ k, k < 65536 ∧ mk = nI k ∧ mt = lN k) (j : Nat) :
    ∃ Nc Nt, FX18_work_L39 fN (j + 1) d before mk (Int32.ofInt 0) Mc = some Nc ∧ FX95_work_L34 fN (j + 1) b (nI done) mt (Int32.ofInt 0) Mt = some Nt ∧ RelD d x dk q rq b r c Nc Nt ∧ RamQ r Mc Nc := by
  have D0 := D
  obtain ⟨R, C, TT, size, tk, gv, ⟨v1, v2, v3, v4⟩, _⟩ := D
  have z0 : Int32.ofInt 0 = 0 := rfl
  have c1 : (Mc.1 67 d 0 = before) = (done = 0) := by rw [h67]; exact add_z hd
  have t1 : (nI done ≤ 0) = (done = 0) := propext (by
    rw [show (0 : Int32) = nI 0 from rfl, n_le (by omega) (by decide)]
    omega)
  have EC : FX18_work_L39 fN (j + 1) d before mk (Int32.ofInt 0) Mc = some (fm_sI Mc 66 d 0 (fi (done = 0) (Mc.1 66 d 0) (fi ((mk &&& Int32.ofInt 1) = 0) (Mc.1 66 d 0 ||| Int32.ofInt 1) (Mc.1 66 d 0)))) := by
    show FX18_work_39 fN (FX18_work_L39 fN j) d before mk (Int32.ofInt 0) Mc = _
    rw [(gX18_work_39 (FX18_work_L39 fN j) d before mk (Int32.ofInt 0) Mc R.1.1 C.1.1 ⟨fun _ => trivial, fun z => absurd z0 z⟩).1]
    unfold GX18_work_39 GX18_work_209 GX18_work_210
    rw [fi_pos z0, c1, or_z]
    by_cases y : done = 0
    · rw [fi_pos y, fi_pos y]
      rfl
    · rw [fi_neg y, fi_neg y]
      by_cases y2 : (mk &&& Int32.ofInt 1) = 0
      · rw [fi_pos y2, fi_pos y2]
        rfl
      · rw [fi_neg y2, fi_neg y2]
        rfl
  have ET : FX95_work_L34 fN (j + 1) b (nI done) mt (Int32.ofInt 0) Mt = some (fm_sI Mt 332 b 0 (fi (done = 0) (Mt.1 332 b 0) (fi ((lg_cmp (mt - mt / (Int64.ofInt 2) * (Int64.ofInt 2)) (Int64.ofInt 0)) = 0) (Mt.1 332 b 0 ||| Int32.ofInt 1) (Mt.1 332 b 0)))) := by
    show FX95_work_34 fN (FX95_work_L34 fN j) b (nI done) mt (Int32.ofInt 0) Mt = _
    rw [(gX95_work_34 (FX95_work_L34 fN j) b (nI done) mt (Int32.ofInt 0) Mt R.2.1.1 TT.1 ⟨fun _ => trivial, fun z => absurd z0 z⟩).1]
    unfold GX95_work_34 GX95_work_179 GX95_work_183
    rw [fi_pos z0, t1]
    by_cases y : done = 0
    · rw [fi_pos y, fi_pos y]
      rfl
    · rw [fi_neg y, fi_neg y]
      by_cases y2 : (lg_cmp (mt - mt / (Int64.ofInt 2) * (Int64.ofInt 2)) (Int64.ofInt 0)) = 0
      · rw [fi_pos y2, fi_pos y2]
        rfl
      · rw [fi_neg y2, fi_neg y2]
        rfl
  have ev : fi (done = 0) (Mc.1 66 d 0) (fi ((mk &&& Int32.ofInt 1) = 0) (Mc.1 66 d 0 ||| Int32.ofInt 1) (Mc.1 66 d 0)) = fi (done = 0) (Mt.1 332 b 0) (fi ((lg_cmp (mt - mt / (Int64.ofInt 2) * (Int64.ofInt 2)) (Int64.ofInt 0)) = 0) (Mt.1 332 b 0 ||| Int32.ofInt 1) (Mt.1 332 b 0)) := by
    rw [v4]
    by_cases y : done = 0
    · rw [fi_pos y, fi_pos y]
    · rw [fi_neg y, fi_neg y]
      obtain ⟨k, k1, k2, k3⟩ := hm (by omega)
      have e1 : ((mk &&& Int32.ofInt 1) = 0) = (k % 2 = 0) := propext (by
        rw [k2]
        have e : nI k &&& Int32.ofInt 1 = nI (k % 2) := ui_inj (by
          rw [ui_and, ui_nI, ui_nI, show ui (Int32.ofInt 1) = 2 ^ 1 - 1 from rfl, Nat.and_two_pow_sub_one_eq_mod]
          omega)
        rw [e, show (0 : Int32) = nI 0 from rfl, nI_e (by omega) (by decide)])
      have e2 : ((lg_cmp (mt - mt / (Int64.ofInt 2) * (Int64.ofInt 2)) (Int64.ofInt 0)) = 0) = (k % 2 = 0) := propext (by
        rw [k3, show Int64.ofInt 2 = lN 2 from rfl, show Int64.ofInt 0 = lN 0 from rfl, o_rest (by omega) (by decide), o_eq (by omega) (by decide)])
      rw [e1, e2]
  obtain ⟨d1, q1, _⟩ := set66 D0 (v := fi (done = 0) (Mc.1 66 d 0) (fi ((mk &&& Int32.ofInt 1) = 0) (Mc.1 66 d 0 ||| Int32.ofInt 1) (Mc.1 66 d 0)))
  refine ⟨_, _, EC, ET, ?_, q1⟩
  rw [← ev]
  exact d1
theorem work_L {before : Int32} : ∀ m j done Mc Mt mk mt, m + 2 ≤ j → done + m = 64 → RelD d x dk q rq b r c Mc Mt → Mc.1 67 d 0 = before + nI done → (0 < done → ∃ k, k < 65536 ∧ mk = nI k ∧ mt = lN k) →
    ∃ Nc Nt, FX18_work_L39 fN j d before mk (Int32.ofInt 1) Mc = some Nc ∧ FX95_work_L34 fN j b (nI done) mt (Int32.ofInt 1) Mt = some Nt ∧ RelD d x dk q rq b r c Nc Nt ∧ Evo r (m * 40000) Mc Nc := by
  intro m
  induction m with
  | zero =>
    intro j done Mc Mt mk mt hj hd D h67 hm
    obtain ⟨j, rfl⟩ : ∃ y, j = y + 1 + 1 := ⟨j - 2, by omega⟩
    have D0 := D
    obtain ⟨R, C, TT, size, tk, gv, ⟨v1, v2, v3, v4⟩, ⟨v5, v6, v7, v8⟩, v9, ⟨v10, v11, v12⟩, ⟨v13, v14, v15⟩, _⟩ := D
    obtain ⟨nx, ndk, nq, nrq⟩ := dk_is R.1.1 C
    obtain ⟨of, hof⟩ : ∃ of, Mc.2.1 74 q 0 = of := ⟨_, rfl⟩
    rw [hof] at v11
    obtain ⟨c1, c2⟩ := work_c D0 (mk := mk) h67 (by omega) v13 v15 hof
    obtain ⟨t1, t2⟩ := work_t D0 (mt := mt) (done := done) (by omega) v14 v15 v6 v8 v11.symm
    have d64 : done = 64 := by omega
    have HC := c1 (fun _ z => absurd (Or.inr d64) z)
    have HT := t1 (fun _ z => absurd (Or.inr d64) z)
    show ∃ Nc Nt, FX18_work_39 fN (FX18_work_L39 fN (j + 1)) d before mk (Int32.ofInt 1) Mc = some Nc ∧ FX95_work_34 fN (FX95_work_L34 fN (j + 1)) b (nI done) mt (Int32.ofInt 1) Mt = some Nt ∧ _
    rw [(gX18_work_39 (FX18_work_L39 fN (j + 1)) d before mk (Int32.ofInt 1) Mc R.1.1 C.1.1 HC).1, (gX95_work_34 (FX95_work_L34 fN (j + 1)) b (nI done) mt (Int32.ofInt 1) Mt R.2.1.1 TT.1 HT).1, c2, t2]
    by_cases hi : inR of 4
    · rw [fi_pos hi, fi_pos hi, fi_pos (Or.inr d64), fi_pos (Or.inr d64)]
      have i2 : inR of 2 := by unfold inR at *; omega
      have a5 : ul (nuC x Mc of 2) < 65536 := nuC_lt (s := 2) R.1 nx C.2.1.1 i2 (by decide)
      obtain ⟨Nc, Nt, e1, e2, e3, e4⟩ := work_E D0 (mk := nI (ul (nuC x Mc of 2))) (mt := nuC x Mc of 2) h67 (by omega) (fun _ => ⟨_, a5, rfl, (lN_ul _).symm⟩) j
      exact ⟨Nc, Nt, e1, e2, e3, evo_w (evo_q e4 (evo_r r 0 Nc)) (by omega)⟩
    · rw [fi_neg hi, fi_neg hi]
      obtain ⟨f1, f2⟩ := rel_fail D0
      obtain ⟨Nc, Nt, e1, e2, e3, e4⟩ := work_E f1 (mk := mk) (mt := mt) (by rw [fail_67]; exact h67) (by omega) hm j
      exact ⟨Nc, Nt, e1, e2, e3, evo_w (evo_q (ramQ_t f2 e4) (evo_r r 0 Nc)) (by omega)⟩
  | succ m ih =>
    intro j done Mc Mt mk mt hj hd D h67 hm
    obtain ⟨j, rfl⟩ : ∃ y, j = y + 1 + 1 := ⟨j - 2, by omega⟩
    have D0 := D
    obtain ⟨R, C, TT, size, tk, gv, ⟨v1, v2, v3, v4⟩, ⟨v5, v6, v7, v8⟩, v9, ⟨v10, v11, v12⟩, ⟨v13, v14, v15⟩, _⟩ := D
    obtain ⟨nx, ndk, nq, nrq⟩ := dk_is R.1.1 C
    obtain ⟨of, hof⟩ : ∃ of, Mc.2.1 74 q 0 = of := ⟨_, rfl⟩
    rw [hof] at v11
    obtain ⟨c1, c2⟩ := work_c D0 (mk := mk) h67 (by omega) v13 v15 hof
    obtain ⟨t1, t2⟩ := work_t D0 (mt := mt) (done := done) (by omega) v14 v15 v6 v8 v11.symm
    have d64 : ¬ done = 64 := by omega
    obtain ⟨s1, s2⟩ := rel_serve D0 (ah := ahd (ul (nuC x Mc (of + Int64.ofInt 2) 2)) tk) (ah_lt _ _) v5 ⟨v7, v8⟩
    have HC := c1 (fun _ _ => by
      by_cases y : size < ahd (ul (nuC x Mc (of + Int64.ofInt 2) 2)) tk
      · exact (s1 y).1
      · exact (s2 y).1)
    have HT := t1 (fun _ _ y => (s2 y).2.1)
    show ∃ Nc Nt, FX18_work_39 fN (FX18_work_L39 fN (j + 1)) d before mk (Int32.ofInt 1) Mc = some Nc ∧ FX95_work_34 fN (FX95_work_L34 fN (j + 1)) b (nI done) mt (Int32.ofInt 1) Mt = some Nt ∧ _
    rw [(gX18_work_39 (FX18_work_L39 fN (j + 1)) d before mk (Int32.ofInt 1) Mc R.1.1 C.1.1 HC).1, (gX95_work_34 (FX95_work_L34 fN (j + 1)) b (nI done) mt (Int32.ofInt 1) Mt R.2.1.1 TT.1 HT).1, c2, t2]
    clear c1 c2 t1 t2 HC HT
    by_cases hi : inR of 4
    · rw [fi_pos hi, fi_pos hi]
      have i2 : inR of 2 := by unfold inR at *; omega
      have a5 : ul (nuC x Mc of 2) < 65536 := nuC_lt (s := 2) R.1 nx C.2.1.1 i2 (by decide)
      have hk : ∃ k, k < 65536 ∧ nI (ul (nuC x Mc of 2)) = nI k ∧ nuC x Mc of 2 = lN k := ⟨_, a5, rfl, (lN_ul _).symm⟩
      by_cases h0 : ahd (ul (nuC x Mc (of + Int64.ofInt 2) 2)) tk = 0 ∨ done = 64
      · rw [fi_pos h0, fi_pos h0]
        obtain ⟨Nc, Nt, e1, e2, e3, e4⟩ := work_E D0 (mk := nI (ul (nuC x Mc of 2))) (mt := nuC x Mc of 2) h67 (by omega) (fun _ => hk) j
        exact ⟨Nc, Nt, e1, e2, e3, evo_w (evo_q e4 (evo_r r 0 Nc)) (by omega)⟩
      · rw [fi_neg h0, fi_neg h0]
        by_cases hz : size < ahd (ul (nuC x Mc (of + Int64.ofInt 2) 2)) tk
        · rw [(s1 hz).2, fi_pos hz]
          dsimp only
          rw [fi_pos (show Int32.ofInt 0 = 0 from rfl)]
          obtain ⟨f1, f2⟩ := rel_fail D0
          obtain ⟨Nc, Nt, e1, e2, e3, e4⟩ := work_E f1 (mk := nI (ul (nuC x Mc of 2))) (mt := nuC x Mc of 2) (by rw [fail_67]; exact h67) (by omega) (fun _ => hk) j
          exact ⟨Nc, Nt, e1, e2, e3, evo_w (evo_q (ramQ_t f2 e4) (evo_r r 0 Nc)) (by omega)⟩
        · obtain ⟨_, _, o, Nc1, Nt1, g1, g2, g3, g4, _, g6, g7⟩ := s2 hz
          rw [g1, g2, fi_neg hz]
          dsimp only
          by_cases ho : o
          · rw [fi_neg (b1_0 ho), fi_neg (b1_0 ho)]
            obtain ⟨Nc, Nt, e1, e2, e3, e4⟩ := ih (j + 1) (done + 1) Nc1 Nt1 (nI (ul (nuC x Mc of 2))) (nuC x Mc of 2) (by omega) (by omega) g3 (by rw [g6 ho, h67, Int32.add_assoc, show Int32.ofInt 1 = nI 1 from rfl, nI_a]) (fun _ => hk)
            exact ⟨Nc, Nt, e1, e2, e3, evo_w (evo_t g4 e4) (by omega)⟩
          · rw [fi_pos (b0_0 ho), fi_pos (b0_0 ho)]
            obtain ⟨f1, f2⟩ := rel_fail g3
            obtain ⟨Nc, Nt, e1, e2, e3, e4⟩ := work_E f1 (mk := nI (ul (nuC x Mc of 2))) (mt := nuC x Mc of 2) (by rw [fail_67, g7 ho]; exact h67) (by omega) (fun _ => hk) j
            exact ⟨Nc, Nt, e1, e2, e3, evo_w (evo_t g4 (evo_q (ramQ_t f2 e4) (evo_r r 0 Nc))) (by omega)⟩
    · rw [fi_neg hi, fi_neg hi]
      obtain ⟨f1, f2⟩ := rel_fail D0
      obtain ⟨Nc, Nt, e1, e2, e3, e4⟩ := work_E f1 (mk := mk) (mt := mt) (by rw [fail_67]; exact h67) (by omega) hm j
      exact ⟨Nc, Nt, e1, e2, e3, evo_w (evo_q (ramQ_t f2 e4) (evo_r r 0 Nc)) (by omega)⟩
/-- what is offered is worked on -/
theorem rel_work (D : RelD d x dk q rq b r c Mc Mt) : HX18_work d Mc ∧ HX95_work b Mt ∧ RelD d x dk q rq b r c (GX18_work d Mc) (GX95_work b Mt) ∧ Evo r 2560000 Mc (GX18_work d Mc) := by
  have D0 := D
  obtain ⟨R, C, TT, size, tk, gv, ⟨v1, v2, v3, v4⟩, ⟨v5, v6, v7, v8⟩, v9, _⟩ := D
  have c4 := C.1.2.2.2.1
  have X : ∃ Nc Nt, FX18_work fN d Mc = some Nc ∧ FX95_work fN b Mt = some Nt ∧ RelD d x dk q rq b r c Nc Nt ∧ Evo r 2560000 Mc Nc := by
    show ∃ Nc Nt, FX18_work_0 fN (FX18_work_L39 fN fN) d Mc = some Nc ∧ FX95_work_0 fN (FX95_work_L34 fN fN) b Mt = some Nt ∧ _
    rw [(gX18_work_0 (FX18_work_L39 fN fN) d Mc R.1.1 C.1.1).1, (gX95_work_0 (FX95_work_L34 fN fN) b Mt R.2.1.1 TT.1).1]
    unfold GX18_work_0 GX95_work_0 GX18_work_29 GX95_work_26
    dsimp only
    rw [c4, v3, v9]
    by_cases h1 : Mt.1 333 b 0 &&& Int32.ofInt 4 = 0
    · rw [fi_pos h1, fi_pos h1]
      exact ⟨Mc, Mt, rfl, rfl, D0, evo_w (evo_r r 0 Mc) (by omega)⟩
    rw [fi_neg h1, fi_neg h1]
    by_cases h2 : Mt.1 333 b 0 &&& Int32.ofInt 64 = 0
    · rw [fi_pos h2, fi_pos h2]
      by_cases h3 : Mt.1 331 b 0 = 0
      · rw [fi_pos h3, fi_pos h3]
        exact ⟨Mc, Mt, rfl, rfl, D0, evo_w (evo_r r 0 Mc) (by omega)⟩
      · rw [fi_neg h3, fi_neg h3]
        exact work_L 64 fN 0 Mc Mt (Int32.ofInt 0) (Int64.ofInt 1) (by unfold fN; omega) rfl D0 (Int32.add_zero _).symm (fun z => absurd z (Nat.lt_irrefl 0))
    · rw [fi_neg h2, fi_neg h2]
      exact ⟨Mc, Mt, rfl, rfl, D0, evo_w (evo_r r 0 Mc) (by omega)⟩
  obtain ⟨Nc, Nt, e1, e2, e3, e4⟩ := X
  have k1 := wX18_work (fun _ => True) (fun _ => True) (fun _ _ => trivial) fN d Mc (wi_N R.1.2.1) trivial _ e1
  have k2 := wX95_work (fun _ => True) (fun _ => True) (fun _ _ => trivial) fN b Mt (wi_N R.2.1.2.1) trivial _ e2
  obtain ⟨h1, g1⟩ := op_of (d := Mc) e1 (P := OkV Mc) ⟨e3.1.1.1, wk_ext R.1.2.1 k1⟩
  obtain ⟨h2, g2⟩ := op_of (d := Mt) e2 (P := OkV Mt) ⟨e3.1.2.1.1, wk_ext R.2.1.2.1 k2⟩
  have g1 : GX18_work d Mc = Nc := g1
  have g2 : GX95_work b Mt = Nt := g2
  rw [g1, g2]
  exact ⟨h1, h2, e3, e4⟩
end Wo
