/-! the machine: a word of memory, a byte of the disk -/
set_option maxRecDepth 100000
section Ow
variable {bd hv m hq s dd x dk q rq r sg bl cr np mc : Nat} {B Bk Vv x1 h k : Nat} {Mc Mt : FM} {ad : Int64} {z : Int32}
theorem O_word (R : RelM bd hv m hq s dd x dk q rq r sg bl cr np mc B Bk Vv Mc Mt) (xm : XM x1 mc Mc) (hr : inR ad 8) : ∃ v, (HX1_word x1 ad Mc ∧ GX1_word x1 ad Mc = (v, Mc)) ∧ (HX92_word m ad Mt ∧ GX92_word m ad Mt = (v, fm_sI Mt 296 m 0 (Int32.ofInt 0))) := by
  have RR := relM_ram R
  have RB := relM_b R
  have R1 := (ob_296 R (Int32.ofInt 0)).1
  have RR1 := relM_ram R1
  obtain ⟨v, l1, l2, l3, l4⟩ := rel_load RR1 (sz := Int32.ofInt 8) (s := 8) rfl (by decide) (by decide) hr
  have e18 : Mc.2.2 18 bd 0 = r := RB.1.1.2.2.1
  have hs := X11_has RR.2.2.1 (a := ad) (b := Int64.ofInt 8) (by decide)
  rw [show ul (Int64.ofInt 8) = 8 from rfl, bz_t hr] at hs
  have ha := X93_areBytes (M := Mt) (a := ad) (b := Int64.ofInt 8) (by decide)
  rw [show ul (Int64.ofInt 8) = 8 from rfl, bz_t ⟨by unfold inR at *; omega, hr⟩] at ha
  have i10 : ¬ Int32.ofInt 1 = (0 : Int32) := by decide
  have z296 : (fm_sI Mt 296 m 0 (Int32.ofInt 0)).1 296 m 0 ≤ 0 := by rw [rIe]; decide
  have v298 : (fm_sI Mt 296 m 0 (Int32.ofInt 0)).2.2 298 m 0 = cr := RB.1.2.2.1
  refine ⟨v, ⟨?_, ?_⟩, ⟨?_, ?_⟩⟩
  · unfold HX1_word HX1_word_0 GX1_there GX1_there_0 HX1_there HX1_there_0
    try dsimp only
    rw [xm.2, R.2.1, e18, hs]
    try dsimp only
    rw [fi_neg i10, xm.2, R.2.1, e18]
    exact ⟨⟨fun q => absurd q i10, fun _ => trivial⟩, l1, trivial⟩
  · unfold GX1_word GX1_word_0 GX1_there GX1_there_0
    try dsimp only
    rw [xm.2, R.2.1, e18, hs]
    try dsimp only
    rw [fi_neg i10, xm.2, R.2.1, e18, l2]
  · unfold HX92_word HX92_word_0 HX92_word_16
    try dsimp only
    rw [ha]
    refine ⟨fun q => absurd q i10, fun _ => ⟨fun _ => ?_, fun q => absurd z296 q⟩⟩
    rw [v298]
    exact ⟨l3, trivial⟩
  · unfold GX92_word GX92_word_0 GX92_word_16 GX92_word_40
    try dsimp only
    rw [ha]
    try dsimp only
    rw [fi_neg i10, fi_pos z296, v298, l4]
theorem O_word0 (R : RelM bd hv m hq s dd x dk q rq r sg bl cr np mc B Bk Vv Mc Mt) (hr : ¬ inR ad 8) : GX11_has r ad (Int64.ofInt 8) Mc = (Int32.ofInt 0, Mc) ∧ (HX92_word m ad Mt ∧ GX92_word m ad Mt = (Int64.ofInt 0, fm_sI Mt 296 m 0 (Int32.ofInt 1))) := by
  have RR := relM_ram R
  have hs := X11_has RR.2.2.1 (a := ad) (b := Int64.ofInt 8) (by decide)
  rw [show ul (Int64.ofInt 8) = 8 from rfl, bz_f hr] at hs
  have ha := X93_areBytes (M := Mt) (a := ad) (b := Int64.ofInt 8) (by decide)
  rw [show ul (Int64.ofInt 8) = 8 from rfl, bz_f (fun q => hr q.2)] at ha
  have z296 : ¬ (fm_sI Mt 296 m 0 (Int32.ofInt 1)).1 296 m 0 ≤ 0 := by rw [rIe]; decide
  refine ⟨hs, ?_, ?_⟩
  · unfold HX92_word HX92_word_0 HX92_word_16
    try dsimp only
    rw [ha]
    exact ⟨fun _ => ⟨fun q => absurd q z296, fun _ => trivial⟩, fun q => absurd rfl q⟩
  · unfold GX92_word GX92_word_0 GX92_word_16 GX92_word_40
    try dsimp only
    rw [ha]
    try dsimp only
    rw [fi_pos (show (Int32.ofInt 0 : Int32) = 0 from rfl), fi_neg z296]
theorem O_disk (R : RelM bd hv m hq s dd x dk q rq r sg bl cr np mc B Bk Vv Mc Mt) (xm : XM x1 mc Mc) (hk : k < 1048576) : ∃ v, (HX1_disk x1 (nI k) Mc ∧ GX1_disk x1 (nI k) Mc = (v, Mc)) ∧ (HX92_disk m (nI k) Mt ∧ GX92_disk m (nI k) Mt = (v, fm_sI (fm_sI Mt 324 bl 0 (Int32.ofInt 0)) 296 m 0 (Int32.ofInt 0))) := by
  have RR := relM_ram R
  have RB := relM_b R
  obtain ⟨_, ⟨⟨n22, _, e59, _⟩, ⟨_, e68, _⟩, _⟩, ⟨n93, _, e325⟩, size, tk, gv, _, _, _, _, _, _, _, hdk⟩ := RB.2.1.2
  have e20 : Mc.2.2 20 bd 0 = dd := RB.1.1.2.2.2.2
  have v300 : Mt.2.2 300 m 0 = bl := RB.1.2.2.2.1
  have n23 : fm_is Mc 23 23 dk = true := by
    have := tN_59 RR.1.1.1 n22
    rw [e59] at this
    exact this
  obtain ⟨g1, g2⟩ := X23_get RR.1.1 n23 hk
  obtain ⟨b1, b2⟩ := X95_byteOf (b := Mt.2.2 327 bl 0) (M := fm_sI Mt 324 bl 0 (Int32.ofInt 0)) (k := k) (tL_327 RR.2.1.1.1 n93) hk
  have eg : gtb (fun j => (fm_sI Mt 324 bl 0 (Int32.ofInt 0)).2.1 3 (Mt.2.2 327 bl 0) j) k = gtb (fun j => Mc.2.1 3 (Mc.2.2 69 dk 0) j) k := by
    unfold gtb
    try dsimp only
    rw [hdk (k / 8) (by omega)]
    rfl
  rw [eg] at b2
  have i10 : ¬ Int32.ofInt 1 = (0 : Int32) := by decide
  have k0 : ¬ nI k < 0 := fun q => by
    have := (n_lt (a := k) (b := 0) (by omega) (by decide)).mp q
    omega
  have em : Int32.ofInt 512 * Int32.ofInt 2048 = nI 1048576 := by decide
  have k1 : ¬ nI 1048576 ≤ nI k := fun q => by have := (n_le (by decide) (by omega)).mp q; omega
  have k2 : nI k < nI 1048576 := (n_lt (by omega) (by decide)).mpr hk
  have ip : GX23_isPlace dk (nI k) Mc = (Int32.ofInt 1, Mc) := by
    unfold GX23_isPlace GX23_isPlace_0 GX23_isPlace_21
    try dsimp only
    rw [e68, em, fi_neg k0, fi_neg k1]
  have np_ : GX95_noPlace bl (nI k) Mt = (Int32.ofInt 0, fm_sI Mt 324 bl 0 (Int32.ofInt 0)) := by
    unfold GX95_noPlace GX95_noPlace_0 GX95_noPlace_22 GX95_noPlace_37
    try dsimp only
    rw [e325, em, fi_neg k0, fi_pos k2, fi_pos (show (fm_sI Mt 324 bl 0 (Int32.ofInt 0)).1 324 bl 0 ≤ 0 by rw [rIe]; decide)]
  have tHG : HX95_disk bl (nI k) Mt ∧ GX95_disk bl (nI k) Mt = (gtb (fun j => Mc.2.1 3 (Mc.2.2 69 dk 0) j) k, fm_sI Mt 324 bl 0 (Int32.ofInt 0)) := by
    constructor
    · unfold HX95_disk HX95_disk_0
      try dsimp only
      rw [np_]
      exact ⟨fun _ => ⟨b1, trivial⟩, fun q => absurd rfl q⟩
    · unfold GX95_disk GX95_disk_0 GX95_disk_20
      try dsimp only
      rw [np_]
      try dsimp only
      rw [fi_pos (show (Int32.ofInt 0 : Int32) = 0 from rfl)]
      exact b2
  refine ⟨gtb (fun j => Mc.2.1 3 (Mc.2.2 69 dk 0) j) k, ⟨?_, ?_⟩, ⟨?_, ?_⟩⟩
  · unfold HX1_disk HX1_disk_0 GX1_there GX1_there_0 HX1_there HX1_there_0
    try dsimp only
    rw [xm.2, R.2.1, e20, e59, ip]
    try dsimp only
    rw [fi_neg i10, xm.2, R.2.1, e20, e59]
    exact ⟨⟨fun q => absurd q i10, fun _ => trivial⟩, g1, trivial⟩
  · unfold GX1_disk GX1_disk_0 GX1_there GX1_there_0
    try dsimp only
    rw [xm.2, R.2.1, e20, e59, ip]
    try dsimp only
    rw [fi_neg i10, xm.2, R.2.1, e20, e59, g2]
  · unfold HX92_disk HX92_disk_0
    try dsimp only
    rw [v300]
    exact ⟨tHG.1, trivial⟩
  · unfold GX92_disk GX92_disk_0 GX95_thrown GX95_thrown_0
    try dsimp only
    rw [v300, tHG.2]
    try dsimp only
    rw [show (fm_sI Mt 324 bl 0 (Int32.ofInt 0)).2.2 300 m 0 = bl from v300, rIe]
theorem O_disk0 (R : RelM bd hv m hq s dd x dk q rq r sg bl cr np mc B Bk Vv Mc Mt) (hz : z < 0 ∨ nI 1048576 ≤ z) : GX23_isPlace dk z Mc = (Int32.ofInt 0, Mc) ∧ (HX92_disk m z Mt ∧ GX92_disk m z Mt = (Int32.ofInt 0, fm_sI (fm_sI Mt 324 bl 0 (Int32.ofInt 1)) 296 m 0 (Int32.ofInt 1))) := by
  have RB := relM_b R
  obtain ⟨_, ⟨_, ⟨_, e68, _⟩, _⟩, ⟨n93, _, e325⟩, _⟩ := RB.2.1.2
  have v300 : Mt.2.2 300 m 0 = bl := RB.1.2.2.2.1
  have em : Int32.ofInt 512 * Int32.ofInt 2048 = nI 1048576 := by decide
  have np17 : GX95_noPlace_17 bl bl Mt = (Int32.ofInt 1, fm_sI Mt 324 bl 0 (Int32.ofInt 1)) := by
    unfold GX95_noPlace_17 GX95_noPlace_22 GX95_noPlace_37
    try dsimp only
    rw [fi_neg (show ¬ (fm_sI Mt 324 bl 0 (Int32.ofInt 1)).1 324 bl 0 ≤ 0 by rw [rIe]; decide)]
  have np_ : GX95_noPlace bl z Mt = (Int32.ofInt 1, fm_sI Mt 324 bl 0 (Int32.ofInt 1)) := by
    unfold GX95_noPlace GX95_noPlace_0
    try dsimp only
    rw [e325, em]
    by_cases c : z < 0
    · rw [fi_pos c, np17]
    · have d : ¬ z < nI 1048576 := fun q => by
        have := hz.resolve_left c
        rw [le_ti] at this
        rw [lt_ti] at q
        omega
      rw [fi_neg c, fi_neg d, np17]
  have i10 : ¬ Int32.ofInt 1 = (0 : Int32) := by decide
  refine ⟨?_, ?_, ?_⟩
  · unfold GX23_isPlace GX23_isPlace_0 GX23_isPlace_20 GX23_isPlace_21
    try dsimp only
    rw [e68, em]
    by_cases c : z < 0
    · rw [fi_pos c]
    · rw [fi_neg c, fi_pos (hz.resolve_left c)]
  · unfold HX92_disk HX92_disk_0 HX95_disk HX95_disk_0
    try dsimp only
    rw [v300, np_]
    exact ⟨⟨fun q => absurd q i10, fun _ => trivial⟩, trivial⟩
  · unfold GX92_disk GX92_disk_0 GX95_thrown GX95_thrown_0 GX95_disk GX95_disk_0 GX95_disk_20
    try dsimp only
    rw [v300, np_]
    try dsimp only
    rw [fi_neg i10]
    try dsimp only
    rw [show (fm_sI Mt 324 bl 0 (Int32.ofInt 1)).2.2 300 m 0 = bl from v300, rIe]
end Ow
