/-! disks: reading and writing of the device's words, of the disk's bytes, both sides -/
set_option maxRecDepth 100000
section Dw
variable {d x dk q rq b r c : Nat} {Mc Mt M : FM}
theorem set72' (D : RelD d x dk q rq b r c Mc Mt) (P : Prop) : RelD d x dk q rq b r c (fm_sI Mc 72 q 0 (bz P)) (fm_sI Mt 331 b 0 (bz P)) ∧ RamQ r Mc (fm_sI Mc 72 q 0 (bz P)) :=
  let h := set72 D (v := bz P) (bz_z P)
  ⟨h.1, h.2.1⟩
/-- writing into the queue's registers -/
theorem rel_wq (D : RelD d x dk q rq b r c Mc Mt) (hs : Mc.1 64 d 0 = 0) {o : Nat} (ho : o < 512) (h4 : o % 4 = 0) (v : Int32) :
    ∃ Nc Nt, GX18_writeQueue d (nI o) v Mc = Nc ∧ RelD d x dk q rq b r c Nc Nt ∧ RamQ r Mc Nc ∧
      ((o = 56 ∨ o = 68 ∨ o = 128 ∨ o = 132 ∨ o = 144 ∨ o = 148 ∨ o = 160 ∨ o = 164) → HX95_setQueue b (nI o) v Mt ∧ GX95_setQueue b (nI o) v Mt = Nt) ∧
      (¬ (o = 56 ∨ o = 68 ∨ o = 128 ∨ o = 132 ∨ o = 144 ∨ o = 148 ∨ o = 160 ∨ o = 164) → Nt = Mt) := by
  have D0 := D
  obtain ⟨R, C, TT, size, tk, gv, ⟨v1, v2, v3, v4⟩, ⟨v5, v6, v7, v8⟩, v9, ⟨v10, v11, v12⟩, _⟩ := D
  have c4 := C.1.2.2.2.1
  have nb := TT.1
  have T' := R.2.1.1
  have hs' : Mt.1 328 b 0 = 0 := by rw [← v2]; exact hs
  have places : ∀ (i : Nat) (up : Bool), i < 3 → o = 128 + 16 * i + (if up then 4 else 0) → ∃ Nc Nt, GX18_writeQueue d (nI o) v Mc = Nc ∧ RelD d x dk q rq b r c Nc Nt ∧ RamQ r Mc Nc ∧ HX95_setQueue b (nI o) v Mt ∧ GX95_setQueue b (nI o) v Mt = Nt := fun i up hi he => by
    obtain ⟨t1, t2⟩ := sq_p nb T' v o i up hi he
    rw [t2, sq_c v o i up hi he c4, fi_pos hs', v9]
    by_cases hr : Mt.1 331 b 0 = 0
    · rw [fi_pos hr, fi_pos hr]
      have : i = 0 ∨ i = 1 ∨ i = 2 := by omega
      rcases this with rfl | rfl | rfl
      · have h := set73 D0 (v := hfL (Mc.2.1 73 q 0) up v)
        rw [v10] at h
        rw [show (73 + 0 : Nat) = 73 from rfl, v10]
        exact ⟨_, _, rfl, h.1, h.2.1, t1, rfl⟩
      · have h := set74 D0 (v := hfL (Mc.2.1 74 q 0) up v)
        rw [v11] at h
        rw [show (73 + 1 : Nat) = 74 from rfl, v11]
        exact ⟨_, _, rfl, h.1, h.2.1, t1, rfl⟩
      · have h := set75 D0 (v := hfL (Mc.2.1 75 q 0) up v)
        rw [v12] at h
        rw [show (73 + 2 : Nat) = 75 from rfl, v12]
        exact ⟨_, _, rfl, h.1, h.2.1, t1, rfl⟩
    · rw [fi_neg hr, fi_neg hr]
      exact ⟨_, _, rfl, D0, ramQ_r R.1, t1, rfl⟩
  have fin : ∀ {P : Prop}, P → (∃ Nc Nt, GX18_writeQueue d (nI o) v Mc = Nc ∧ RelD d x dk q rq b r c Nc Nt ∧ RamQ r Mc Nc ∧ HX95_setQueue b (nI o) v Mt ∧ GX95_setQueue b (nI o) v Mt = Nt) →
      ∃ Nc Nt, GX18_writeQueue d (nI o) v Mc = Nc ∧ RelD d x dk q rq b r c Nc Nt ∧ RamQ r Mc Nc ∧ (P → HX95_setQueue b (nI o) v Mt ∧ GX95_setQueue b (nI o) v Mt = Nt) ∧ (¬ P → Nt = Mt) := fun {P} hp h => by
    obtain ⟨Nc, Nt, h1, h2, h3, h4⟩ := h
    exact ⟨Nc, Nt, h1, h2, h3, fun _ => h4, fun z => absurd hp z⟩
  obtain ⟨⟨s1, s2⟩, s3, s4⟩ := sq_t nb T' v
  by_cases h68 : o = 68
  · refine fin (by omega) ?_
    subst h68
    rw [wq_c (by decide) v c4, fi_pos rfl]
    have h := set72' D0 (ui v % 2 = 1)
    refine ⟨_, _, rfl, h.1, h.2, s1, ?_⟩
    refine s2.trans ?_
    rw [fi_pos hs']
  by_cases h56 : o = 56
  · refine fin (by omega) ?_
    subst h56
    rw [wq_c (by decide) v c4, fi_neg (by decide), fi_pos rfl]
    have s4' : GX95_setQueue b (nI 56) v Mt = _ := s4
    rw [s4', fi_pos hs', v9]
    by_cases hr : Mt.1 331 b 0 = 0
    · rw [fi_pos hr, fi_pos hr]
      by_cases hz : szP v
      · obtain ⟨s, e1, e2, e3⟩ := sz_n hz
        have h := set71 D0 e1 ⟨e2, e3⟩
        rw [fi_pos hz, fi_pos hz]
        exact ⟨_, _, rfl, h.1, h.2.1, s3, rfl⟩
      · have h := set71 D0 (v := nI size) rfl ⟨v7, v8⟩
        rw [fi_neg hz, fi_neg hz, v5, v6]
        exact ⟨_, _, rfl, h.1, h.2.1, s3, rfl⟩
    · rw [fi_neg hr, fi_neg hr]
      exact ⟨_, _, rfl, D0, ramQ_r R.1, s3, rfl⟩
  by_cases hp : o = 128 ∨ o = 132 ∨ o = 144 ∨ o = 148 ∨ o = 160 ∨ o = 164
  · refine fin (by omega) ?_
    rcases hp with hp | hp | hp | hp | hp | hp
    · exact places 0 false (by decide) hp
    · exact places 0 true (by decide) hp
    · exact places 1 false (by decide) hp
    · exact places 1 true (by decide) hp
    · exact places 2 false (by decide) hp
    · exact places 2 true (by decide) hp
  · refine ⟨Mc, Mt, ?_, D0, ramQ_r R.1, fun z => by omega, fun _ => rfl⟩
    rw [wq_c ho v c4, fi_neg h68, fi_neg h56]
    by_cases hr : Mc.1 72 q 0 = 0
    · rw [fi_pos hr]
      by_cases h1 : o < 128
      · rw [fi_pos h1]
      rw [fi_neg h1]
      by_cases h2 : 168 ≤ o
      · rw [fi_pos h2]
      rw [fi_neg h2]
      have : o = 136 ∨ o = 140 ∨ o = 152 ∨ o = 156 := by omega
      rcases this with rfl | rfl | rfl | rfl <;> rw [fi_neg (by decide)]
    · rw [fi_neg hr]
theorem rel_dwrite (D : RelD d x dk q rq b r c Mc Mt) {o : Nat} (ho : o < 512) (h4 : o % 4 = 0) (v : Int32) :
    HX18_write d (nI o) v Mc ∧ HX95_write b (nI o) v Mt ∧ RelD d x dk q rq b r c (GX18_write d (nI o) v Mc) (GX95_write b (nI o) v Mt) ∧ Evo r 2560000 Mc (GX18_write d (nI o) v Mc) := by
  have D0 := D
  obtain ⟨D1, _⟩ := set324 D0 (v := Int32.ofInt 0)
  have hn := X95_noOffset (b := b) (M := Mt) ho h4
  generalize fm_sI Mt 324 b 0 (Int32.ofInt 0) = M1 at *
  have E : ∀ k : Nat, k < 512 → (nI o = nI k) = (o = k) := fun k hk => nI_e (by omega) (by omega)
  have e20 : (nI o = Int32.ofInt 20) = (o = 20) := E 20 (by decide)
  have e48 : (nI o = Int32.ofInt 48) = (o = 48) := E 48 (by decide)
  have e56 : (nI o = Int32.ofInt 56) = (o = 56) := E 56 (by decide)
  have e68 : (nI o = Int32.ofInt 68) = (o = 68) := E 68 (by decide)
  have e80 : (nI o = Int32.ofInt 80) = (o = 80) := E 80 (by decide)
  have e100 : (nI o = Int32.ofInt 100) = (o = 100) := E 100 (by decide)
  have e112 : (nI o = Int32.ofInt 112) = (o = 112) := E 112 (by decide)
  have e128 : (nI o = Int32.ofInt 128) = (o = 128) := E 128 (by decide)
  have e132 : (nI o = Int32.ofInt 132) = (o = 132) := E 132 (by decide)
  have e144 : (nI o = Int32.ofInt 144) = (o = 144) := E 144 (by decide)
  have e148 : (nI o = Int32.ofInt 148) = (o = 148) := E 148 (by decide)
  have e160 : (nI o = Int32.ofInt 160) = (o = 160) := E 160 (by decide)
  have e164 : (nI o = Int32.ofInt 164) = (o = 164) := E 164 (by decide)
  have Dx := D1
  obtain ⟨R, C, TT, size, tk, gv, ⟨v1, v2, v3, v4⟩, _⟩ := Dx
  have eq0 : Evo r 2560000 Mc Mc := evo_w (evo_r r 0 Mc) (by omega)
  have ev : ∀ {N : FM}, RamQ r Mc N → Evo r 2560000 Mc N := fun {N} z => evo_w (evo_q z (evo_r r 0 N)) (by omega)
  have z0 : (Int32.ofInt 0 : Int32) = 0 := rfl
  obtain ⟨wh1, wh2, wh3, wh4⟩ := rel_work D1
  unfold HX18_write HX18_write_0 GX18_write GX18_write_0 GX18_write_115 HX95_write HX95_write_0 GX95_write GX95_write_0 GX95_write_140 GX95_write_206 HX95_write_140
  dsimp only
  rw [hn]
  dsimp only
  rw [fi_pos z0, e20, e48, e56, e68, e80, e100, e112, e128, e132, e144, e148, e160, e164]
  by_cases h20 : o = 20
  · rw [fi_pos h20, fi_pos h20]
    have h := set63 D1 (v := v)
    exact ⟨⟨fun _ => trivial, fun z => absurd h20 z⟩, ⟨fun _ => ⟨fun _ => trivial, fun z => absurd h20 z⟩, fun z => absurd z0 z⟩, h.1, ev h.2.1⟩
  rw [fi_neg h20, fi_neg h20]
  by_cases h48 : o = 48
  · rw [fi_pos h48, fi_pos h48]
    have h := set64 D1 (v := v)
    exact ⟨⟨fun _ => trivial, fun _ => ⟨fun _ => trivial, fun z => absurd h48 z⟩⟩, ⟨fun _ => ⟨fun _ => trivial, fun _ => ⟨fun _ => trivial, fun z => absurd h48 z⟩⟩, fun z => absurd z0 z⟩, h.1, ev h.2.1⟩
  rw [fi_neg h48, fi_neg h48]
  -- the others
  have hC : (o = 20 → True) ∧ (¬ o = 20 → (o = 48 → True) ∧ (¬ o = 48 → (o = 80 → (v = 0 → HX18_work d Mc ∧ True) ∧ (¬ v = 0 → True)) ∧ (¬ o = 80 → True))) :=
    ⟨fun _ => trivial, fun _ => ⟨fun _ => trivial, fun _ => ⟨fun _ => ⟨fun _ => ⟨wh1, trivial⟩, fun _ => trivial⟩, fun _ => trivial⟩⟩⟩
  have q1 : (o = 56 ∨ o = 68 ∨ o = 128 ∨ o = 132 ∨ o = 144 ∨ o = 148 ∨ o = 160 ∨ o = 164) → HX95_setQueue b (nI o) v M1 := fun hz => by
    obtain ⟨⟨s1, _⟩, s3, _⟩ := sq_t TT.1 R.2.1.1 v
    rcases hz with rfl | rfl | rfl | rfl | rfl | rfl | rfl | rfl
    · exact s3
    · exact s1
    · exact (sq_p TT.1 R.2.1.1 v 128 0 false (by decide) rfl).1
    · exact (sq_p TT.1 R.2.1.1 v 132 0 true (by decide) rfl).1
    · exact (sq_p TT.1 R.2.1.1 v 144 1 false (by decide) rfl).1
    · exact (sq_p TT.1 R.2.1.1 v 148 1 true (by decide) rfl).1
    · exact (sq_p TT.1 R.2.1.1 v 160 2 false (by decide) rfl).1
    · exact (sq_p TT.1 R.2.1.1 v 164 2 true (by decide) rfl).1
  refine ⟨hC, ⟨fun _ => ⟨fun _ => trivial, fun _ => ⟨fun _ => trivial, fun _ => ⟨fun z => ⟨q1 (by omega), trivial⟩, fun _ => ⟨fun z => ⟨q1 (by omega), trivial⟩, fun _ => ⟨fun _ => ⟨fun _ => ⟨wh2, trivial⟩, fun _ => trivial⟩, fun _ => ⟨fun _ => trivial, fun _ => ⟨fun _ => ⟨fun _ => ⟨(rel_dreset D1).1, trivial⟩, fun _ => trivial⟩, fun _ => ⟨fun z => ⟨q1 (by omega), trivial⟩, fun _ => ⟨fun z => ⟨q1 (by omega), trivial⟩, fun _ => ⟨fun z => ⟨q1 (by omega), trivial⟩, fun _ => ⟨fun z => ⟨q1 (by omega), trivial⟩, fun _ => ⟨fun z => ⟨q1 (by omega), trivial⟩, fun _ => ⟨fun z => ⟨q1 (by omega), trivial⟩, fun _ => trivial⟩⟩⟩⟩⟩⟩⟩⟩⟩⟩⟩⟩⟩, fun z => absurd z0 z⟩, ?_⟩
  by_cases h80 : o = 80
  · rw [fi_pos h80, fi_neg (show ¬ o = 56 by omega), fi_neg (show ¬ o = 68 by omega), fi_pos h80]
    by_cases hv : v = 0
    · rw [fi_pos hv, fi_pos hv]
      exact ⟨wh3, wh4⟩
    · rw [fi_neg hv, fi_neg hv]
      exact ⟨D1, eq0⟩
  rw [fi_neg h80]
  by_cases h100 : o = 100
  · rw [fi_pos h100, fi_neg (show ¬ o = 56 by omega), fi_neg (show ¬ o = 68 by omega), fi_neg h80, fi_pos h100, ← v4]
    have h := set66 D1 (v := Mc.1 66 d 0 &&& (v ^^^ Int32.ofInt (-1)))
    exact ⟨h.1, ev h.2.1⟩
  rw [fi_neg h100]
  by_cases h112 : o = 112
  · rw [fi_pos h112, fi_neg (show ¬ o = 56 by omega), fi_neg (show ¬ o = 68 by omega), fi_neg h80, fi_neg h100, fi_pos h112]
    by_cases hv : v = 0
    · rw [fi_pos hv, hv]
      have h := rel_dreset D1
      exact ⟨h.2.1, ev h.2.2⟩
    · rw [fi_neg hv, ← v3]
      have h := set65 D1 (v := (v &&& Int32.ofInt 255) ||| (Mc.1 65 d 0 &&& Int32.ofInt 64))
      unfold GX18_become GX18_become_0 GX18_become_51
      rw [fi_neg hv]
      exact ⟨h.1, ev h.2.1⟩
  rw [fi_neg h112]
  -- the queue
  have key : ∀ X : FM, ((o = 56 ∨ o = 68 ∨ o = 128 ∨ o = 132 ∨ o = 144 ∨ o = 148 ∨ o = 160 ∨ o = 164) → X = GX95_setQueue b (nI o) v M1) → (¬ (o = 56 ∨ o = 68 ∨ o = 128 ∨ o = 132 ∨ o = 144 ∨ o = 148 ∨ o = 160 ∨ o = 164) → X = M1) →
      RelD d x dk q rq b r c (fi (Mc.1 64 d 0 = 0) (GX18_writeQueue d (nI o) v Mc) Mc) X ∧ Evo r 2560000 Mc (fi (Mc.1 64 d 0 = 0) (GX18_writeQueue d (nI o) v Mc) Mc) := fun X x1 x2 => by
    by_cases hs : Mc.1 64 d 0 = 0
    · rw [fi_pos hs]
      obtain ⟨Nc, Nt, e1, e2, e3, e4, e5⟩ := rel_wq D1 hs ho h4 v
      rw [e1]
      by_cases hq : o = 56 ∨ o = 68 ∨ o = 128 ∨ o = 132 ∨ o = 144 ∨ o = 148 ∨ o = 160 ∨ o = 164
      · rw [x1 hq, (e4 hq).2]
        exact ⟨e2, ev e3⟩
      · rw [x2 hq, ← e5 hq]
        exact ⟨e2, ev e3⟩
    · rw [fi_neg hs]
      have hs' : ¬ M1.1 328 b 0 = 0 := by rw [← v2]; exact hs
      by_cases hq : o = 56 ∨ o = 68 ∨ o = 128 ∨ o = 132 ∨ o = 144 ∨ o = 148 ∨ o = 160 ∨ o = 164
      · rw [x1 hq]
        unfold GX95_setQueue GX95_setQueue_0 GX95_setQueue_20
        rw [fi_neg hs']
        exact ⟨D1, eq0⟩
      · rw [x2 hq]
        exact ⟨D1, eq0⟩
  refine key _ (fun hq => ?_) (fun hq => ?_)
  · by_cases g1 : o = 56
    · rw [fi_pos g1]
    rw [fi_neg g1]
    by_cases g2 : o = 68
    · rw [fi_pos g2]
    rw [fi_neg g2, fi_neg h80, fi_neg h100, fi_neg h112]
    by_cases g3 : o = 128
    · rw [fi_pos g3]
    rw [fi_neg g3]
    by_cases g4 : o = 132
    · rw [fi_pos g4]
    rw [fi_neg g4]
    by_cases g5 : o = 144
    · rw [fi_pos g5]
    rw [fi_neg g5]
    by_cases g6 : o = 148
    · rw [fi_pos g6]
    rw [fi_neg g6]
    by_cases g7 : o = 160
    · rw [fi_pos g7]
    rw [fi_neg g7, fi_pos (show o = 164 by omega)]
  · rw [fi_neg (show ¬ o = 56 by omega), fi_neg (show ¬ o = 68 by omega), fi_neg h80, fi_neg h100, fi_neg h112, fi_neg (show ¬ o = 128 by omega), fi_neg (show ¬ o = 132 by omega), fi_neg (show ¬ o = 144 by omega), fi_neg (show ¬ o = 148 by omega), fi_neg (show ¬ o = 160 by omega), fi_neg (show ¬ o = 164 by omega)]
/-- a register is read -/
theorem rel_dread (D : RelD d x dk q rq b r c Mc Mt) {o : Nat} (ho : o < 512) (h4 : o % 4 = 0) :
    GX18_read d (nI o) Mc = ((GX95_read b (nI o) Mt).1, Mc) ∧ RelD d x dk q rq b r c Mc (GX95_read b (nI o) Mt).2 := by
  have D0 := D
  obtain ⟨D1, _⟩ := set324 D0 (v := Int32.ofInt 0)
  have hn := X95_noOffset (b := b) (M := Mt) ho h4
  generalize fm_sI Mt 324 b 0 (Int32.ofInt 0) = M1 at *
  have D1' := D1
  obtain ⟨R, C, TT, size, tk, gv, ⟨v1, v2, v3, v4⟩, _, v9, _⟩ := D1
  have c4 := C.1.2.2.2.1
  have c3 := C.1.2.2.1
  have c7 := C.2.1.2.1
  have z0 : (Int32.ofInt 0 : Int32) = 0 := rfl
  suffices h : GX95_read b (nI o) Mt = ((GX18_read d (nI o) Mc).1, M1) ∧ (GX18_read d (nI o) Mc).2 = Mc by
    rw [h.1]
    exact ⟨Prod.ext rfl h.2, D1'⟩
  unfold GX18_read GX18_read_0 GX95_read GX95_read_0 GX18_read_152 GX18_read_151 GX18_read_129 GX18_read_115 GX18_read_87 GX18_read_152 GX95_read_159 GX95_read_158 GX95_read_139 GX95_read_125 GX95_read_159
  rw [hn]
  dsimp only
  rw [fi_pos z0, c4, c3, c7, TT.2.2, v1, v2, v3, v4, v9]
  by_cases g0 : nI o = Int32.ofInt 0
  · rw [fi_pos g0, fi_pos g0]
    exact ⟨rfl, rfl⟩
  rw [fi_neg g0, fi_neg g0]
  by_cases g1 : nI o = Int32.ofInt 4
  · rw [fi_pos g1, fi_pos g1]
    exact ⟨rfl, rfl⟩
  rw [fi_neg g1, fi_neg g1]
  by_cases g2 : nI o = Int32.ofInt 8
  · rw [fi_pos g2, fi_pos g2]
    exact ⟨rfl, rfl⟩
  rw [fi_neg g2, fi_neg g2]
  by_cases g3 : nI o = Int32.ofInt 16
  · rw [fi_pos g3, fi_pos g3]
    by_cases y1 : M1.1 329 b 0 = 0
    · rw [fi_pos y1, fi_pos y1]
      exact ⟨rfl, rfl⟩
    rw [fi_neg y1, fi_neg y1]
    by_cases y2 : M1.1 329 b 0 = Int32.ofInt 1
    · rw [fi_pos y2, fi_pos y2]
      exact ⟨rfl, rfl⟩
    · rw [fi_neg y2, fi_neg y2]
      exact ⟨rfl, rfl⟩
  rw [fi_neg g3, fi_neg g3]
  by_cases g4 : nI o = Int32.ofInt 52
  · rw [fi_pos g4, fi_pos g4]
    by_cases y1 : M1.1 328 b 0 = 0
    · rw [fi_pos y1, fi_pos y1]
      exact ⟨rfl, rfl⟩
    · rw [fi_neg y1, fi_neg y1]
      exact ⟨rfl, rfl⟩
  rw [fi_neg g4, fi_neg g4]
  by_cases g5 : nI o = Int32.ofInt 68
  · rw [fi_pos g5, fi_pos g5]
    by_cases y1 : M1.1 328 b 0 = 0
    · by_cases y2 : M1.1 331 b 0 = 0
      · simp only [fi_pos y1, fi_pos y2]
        exact ⟨trivial, trivial⟩
      · simp only [fi_pos y1, fi_neg y2]
        exact ⟨trivial, trivial⟩
    · by_cases y2 : M1.1 331 b 0 = 0
      · simp only [fi_neg y1, fi_pos y2]
        exact ⟨trivial, trivial⟩
      · simp only [fi_neg y1, fi_neg y2]
        exact ⟨trivial, trivial⟩
  rw [fi_neg g5, fi_neg g5]
  by_cases g6 : nI o = Int32.ofInt 96
  · rw [fi_pos g6, fi_pos g6]
    exact ⟨rfl, rfl⟩
  rw [fi_neg g6, fi_neg g6]
  by_cases g7 : nI o = Int32.ofInt 112
  · rw [fi_pos g7, fi_pos g7]
    exact ⟨rfl, rfl⟩
  rw [fi_neg g7, fi_neg g7]
  by_cases g8 : nI o = Int32.ofInt 256
  · rw [fi_pos g8, fi_pos g8]
    exact ⟨rfl, rfl⟩
  · rw [fi_neg g8, fi_neg g8]
    exact ⟨rfl, rfl⟩
/-- the disk's line -/
theorem rel_line_d (D : RelD d x dk q rq b r c Mc Mt) : GX95_line b Mt = (bz (¬ Mc.1 66 d 0 = 0), fm_sI Mt 324 b 0 (Int32.ofInt 0)) := by
  obtain ⟨D1, _⟩ := set324 D (v := Int32.ofInt 0)
  obtain ⟨R, C, TT, size, tk, gv, ⟨v1, v2, v3, v4⟩, _⟩ := D1
  unfold GX95_line GX95_line_0 GX95_line_17
  dsimp only
  rw [← v4]
  by_cases h : Mc.1 66 d 0 = 0
  · rw [fi_pos h, bz_f (fun z => z h)]
  · rw [fi_neg h, bz_t h]
end Dw
