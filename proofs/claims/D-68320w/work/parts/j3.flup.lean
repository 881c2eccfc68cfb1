/-! floats: the twin's integers, whole -/
set_option maxRecDepth 100000
section Ua
variable {M N K : FM} {f t d r fl i j a b md : Nat} {s : Fs} {x y : Int64} {X Y : UU} {sg : Bool}
theorem X99_toInteger (o : FlO f M) (hb : b < 4) (hm : md ≤ 4) (v0 : SV f 0 M X) (gX : gdU X) (hz : X.1 = 0 → X.2.2.2 ≤ 65) :
    ∃ L, (HX99_toInteger f (nI b) (nI md) M ∧ GX99_toInteger f (nI b) (nI md) M = ((toI b md X).1, L)) ∧ Rs f (toI b md X).2 M L := by
  have bX := gdb gX
  have pX := gX.2.2.1
  have k : ∀ l : Nat, l ≤ 4 → ((M.1 3 (M.2.2 375 f 0) 0 = Int32.ofInt (l : Int)) = (X.1 = l)) := fun l hl => propext (kdI (v := l) v0 gX hl)
  have k0 := k 0 (by decide)
  have k1 := k 1 (by decide)
  have k2 := k 2 (by decide)
  have R50 : X.1 ≤ 1 → ∃ L, (HX99_toInteger_50 f (nI b) (nI md) M ∧ GX99_toInteger_50 f (nI b) (nI md) M = ((toI b md X).1, L)) ∧ Rs f (toI b md X).2 M L := fun h1 => by
    have hng : (X.2.1 && decide (X.1 ≤ 2)) = X.2.1 := by rw [decide_eq_true (show X.1 ≤ 2 by omega), Bool.and_true]
    obtain ⟨M2, ⟨ph, pg⟩, pa, pb, pr, po, psv, prr⟩ := put1 o (Or.inl rfl) gX
    have w0 := psv 0 X v0
    unfold HX99_toInteger_50 GX99_toInteger_50
    dsimp only
    rw [cl0, v0.2.2.1, pg]
    have e378 : M2.1 3 (M2.2.2 378 f 0) 0 = Int32.ofInt X.2.2.2 := w0.2.2.2
    rw [e378]
    have r1 := rs_i (f := f) (g := 383) (v := Int32.ofInt X.2.2.2) (Or.inr rfl) po.1
    have o1 := frF_o po r1.1
    have e376 : (fm_sI M2 383 f 0 (Int32.ofInt X.2.2.2)).1 3 ((fm_sI M2 383 f 0 (Int32.ofInt X.2.2.2)).2.2 376 f 0) 0 = bz (X.2.1 = true) := (oI (fun q => by omega)).trans w0.2.1
    rw [e376]
    have r2 := rs_i (f := f) (g := 382) (v := bz (X.2.1 = true)) (Or.inl rfl) o1.1
    have o2 := frF_o o1 r2.1
    have r3 := rs_m (f := f) (c := False) o2.1
    rw [bz_f (c := False) (fun z => z)] at r3
    have o3 := frF_o o2 r3.1
    have s383 : (fm_sI (fm_sI (fm_sI M2 383 f 0 (Int32.ofInt X.2.2.2)) 382 f 0 (bz (X.2.1 = true))) 381 f 0 (Int32.ofInt 0)).1 383 f 0 = Int32.ofInt X.2.2.2 := (oI (fun q => by omega)).trans ((oI (fun q => by omega)).trans (sI_at _ _ _ _ _))
    have s382 : (fm_sI (fm_sI (fm_sI M2 383 f 0 (Int32.ofInt X.2.2.2)) 382 f 0 (bz (X.2.1 = true))) 381 f 0 (Int32.ofInt 0)).1 382 f 0 = bz (X.2.1 = true) := (oI (fun q => by omega)).trans (sI_at _ _ _ _ _)
    have s381 : (fm_sI (fm_sI (fm_sI M2 383 f 0 (Int32.ofInt X.2.2.2)) 382 f 0 (bz (X.2.1 = true))) 381 f 0 (Int32.ofInt 0)).1 381 f 0 = bz (false = true) := (sI_at _ _ _ _ _).trans (bz_f (by decide)).symm
    have hB : BH (fm_sI (fm_sI (fm_sI M2 383 f 0 (Int32.ofInt X.2.2.2)) 382 f 0 (bz (X.2.1 = true))) 381 f 0 (Int32.ofInt 0)) ((fm_sI (fm_sI (fm_sI M2 383 f 0 (Int32.ofInt X.2.2.2)) 382 f 0 (bz (X.2.1 = true))) 381 f 0 (Int32.ofInt 0)).2.2 379 f 0) X.2.2.1 :=
      bh_I (by decide) (bh_I (by decide) (bh_I (by decide) (by show BH M2 (M2.2.2 379 f 0) X.2.2.1; rw [prr]; exact pb)))
    have f3 : Rs f 0 M (fm_sI (fm_sI (fm_sI M2 383 f 0 (Int32.ofInt X.2.2.2)) 382 f 0 (bz (X.2.1 = true))) 381 f 0 (Int32.ofInt 0)) := rs_0t pr (rs_0t r1 (rs_0t r2 r3))
    generalize fm_sI (fm_sI (fm_sI M2 383 f 0 (Int32.ofInt X.2.2.2)) 382 f 0 (bz (X.2.1 = true))) 381 f 0 (Int32.ofInt 0) = M7 at *
    obtain ⟨n1, l1, -, -, -⟩ := fl_one o3
    obtain ⟨lh, lg⟩ := X99_length o3.1 n1 l1 hB
    rw [lg]
    dsimp only
    rw [s383, iz_nI, iz_a, show (Int32.ofInt ((bln X.2.2.1 : Int) + X.2.2.2) ≤ Int32.ofInt 65) = ((bln X.2.2.1 : Int) + X.2.2.2 ≤ 65) from propext (iz_le (b := 65) (by omega))]
    by_cases q : (bln X.2.2.1 : Int) + X.2.2.2 ≤ 65
    · rw [fi_pos q]
      obtain ⟨rh, rg⟩ := X99_roundTo (mo := false) (u := 0) (sc := X.2.2.2) (md := md) (sg := X.2.1) o3.1 o3.2.1 hB hm s382 s383 s381 (by omega)
      rw [rg, show 0 - X.2.2.2 = -X.2.2.2 by omega]
      have r4 := rs_u (f := f) (U := lN (rnU md X.2.1 X.2.2.1 false (-X.2.2.2))) (c := cuC X.2.2.1 false (-X.2.2.2) ≠ 0) o3.1
      have o4 := frF_o o3 r4.1
      have hB4 := bh_uS (f := f) (V := lN (rnU md X.2.1 X.2.2.1 false (-X.2.2.2))) (l := bz (cuC X.2.2.1 false (-X.2.2.2) ≠ 0)) hB
      have t383 : (uS f (lN (rnU md X.2.1 X.2.2.1 false (-X.2.2.2))) (bz (cuC X.2.2.1 false (-X.2.2.2) ≠ 0)) M7).1 383 f 0 = Int32.ofInt X.2.2.2 := (uS_o (fun q => by omega)).trans s383
      have t382 : (uS f (lN (rnU md X.2.1 X.2.2.1 false (-X.2.2.2))) (bz (cuC X.2.2.1 false (-X.2.2.2) ≠ 0)) M7).1 382 f 0 = bz (X.2.1 = true) := (uS_o (fun q => by omega)).trans s382
      have t384 : (uS f (lN (rnU md X.2.1 X.2.2.1 false (-X.2.2.2))) (bz (cuC X.2.2.1 false (-X.2.2.2) ≠ 0)) M7).2.1 384 f 0 = lN (rnU md X.2.1 X.2.2.1 false (-X.2.2.2)) := sL_at _ _ _ _ _
      have t385 : (uS f (lN (rnU md X.2.1 X.2.2.1 false (-X.2.2.2))) (bz (cuC X.2.2.1 false (-X.2.2.2) ≠ 0)) M7).1 385 f 0 = bz (cuC X.2.2.1 false (-X.2.2.2) ≠ 0) := by
        show (fm_sI M7 385 f 0 (bz (cuC X.2.2.1 false (-X.2.2.2) ≠ 0))).1 385 f 0 = _
        exact sI_at _ _ _ _ _
      have tr : (uS f (lN (rnU md X.2.1 X.2.2.1 false (-X.2.2.2))) (bz (cuC X.2.2.1 false (-X.2.2.2) ≠ 0)) M7).2.2 379 f 0 = M7.2.2 379 f 0 := rfl
      rw [show Int32.ofInt 0 = Int32.ofInt (0 : Int) from rfl]
      generalize uS f (lN (rnU md X.2.1 X.2.2.1 false (-X.2.2.2))) (bz (cuC X.2.2.1 false (-X.2.2.2) ≠ 0)) M7 = M9 at *
      obtain ⟨-, l1', -, -, -⟩ := fl_one o4
      obtain ⟨bh, bg⟩ := X99_bit hB4 (by rw [← tr]; exact l1') (z := 64 - X.2.2.2) (by omega)
      obtain ⟨ch, cg'⟩ := X99_bit hB4 (by rw [← tr]; exact l1') (z := 63 - X.2.2.2) (by omega)
      rw [tr, t383, iz_s, bg]
      dsimp only
      rw [tr, t383, iz_s, cg']
      dsimp only
      rw [fi_bz, fi_bz, t384, t385, fi_bz, propext (l0 (lN (rnU md X.2.1 X.2.2.1 false (-X.2.2.2)))), ul_lN]
      have wi := wide_i (md := md) (sg := X.2.1) (V := X.2.2.1) (e := X.2.2.2) q
      have nF : ¬ toF X := fun y => y.elim (fun z => by omega) (fun z => by omega)
      have f4 : Rs f 0 M M9 := rs_0t f3 r4
      have eU : toU md X = rnU md X.2.1 X.2.2.1 false (-X.2.2.2) := by
        unfold toU
        by_cases y : X.1 = 1
        · rw [if_pos y, hng]
        · rw [if_neg y, (gX.2.2.2 h1).mpr (by omega), rnU_0]
      have eC : (cuC X.2.2.1 false (-X.2.2.2) ≠ 0) = ¬ toC X = 0 := by
        unfold toC
        by_cases y : X.1 = 1
        · rw [if_pos y]
        · rw [if_neg y, (gX.2.2.2 h1).mpr (by omega), (cu_0 _).2]
      have eB : (lim b X.2.1 < rnU md X.2.1 X.2.2.1 false (-X.2.2.2)) = toB b md X := by
        unfold toB
        rw [hng, eU]
        exact propext ⟨Or.inr, fun y => y.resolve_left nF⟩
      have fin' : ∀ wide : Prop, (wide ↔ 18446744073709551616 ≤ rnU md X.2.1 X.2.2.1 false (-X.2.2.2)) → ∃ L, GX99_toInteger_185 f (nI b) (bz wide) M9 = ((toI b md X).1, L) ∧ Rs f (toI b md X).2 M L := fun wide hw => by
        obtain ⟨L, e, r⟩ := t185 (lost := cuC X.2.2.1 false (-X.2.2.2) ≠ 0) o4 hb t382 t384 t385 wide hw
        rw [eB] at e r
        unfold toI
        dsimp only
        rw [hng, eU]
        refine ⟨L, e, ?_⟩
        have : fi (toC X = 0) 0 1 = fi (cuC X.2.2.1 false (-X.2.2.2) ≠ 0) 1 0 := by
          rw [eC]
          by_cases y : toC X = 0
          · rw [fi_pos y, fi_neg (fun z => z y)]
          · rw [fi_neg y, fi_pos y]
        rw [this]
        exact rs_0t f4 r
      have yes := fun (h : 18446744073709551616 ≤ rnU md X.2.1 X.2.2.1 false (-X.2.2.2)) => fin' True ⟨fun _ => h, fun _ => trivial⟩
      have no := fun (h : ¬ 18446744073709551616 ≤ rnU md X.2.1 X.2.2.1 false (-X.2.2.2)) => fin' False ⟨fun z => z.elim, fun z => h z⟩
      rw [bz_t trivial] at yes
      rw [bz_f (fun z => z)] at no
      unfold GX99_toInteger_180 GX99_toInteger_184
      by_cases c1 : 0 ≤ 64 - X.2.2.2 ∧ X.2.2.1.testBit (64 - X.2.2.2).toNat = true
      · rw [fi_pos c1, bz_t c1]
        obtain ⟨L, e, r⟩ := yes (wi.mp (Or.inl c1))
        exact ⟨L, ⟨⟨ph, lh, fun _ => ⟨rh, bh, fun z => absurd z (by decide), fun _ => trivial⟩, fun z => absurd q z⟩, e⟩, r⟩
      · rw [fi_neg c1, bz_f c1]
        by_cases c2 : rnU md X.2.1 X.2.2.1 false (-X.2.2.2) % 18446744073709551616 = 0
        · rw [fi_pos c2]
          by_cases c3 : cuC X.2.2.1 false (-X.2.2.2) ≠ 0
          · rw [fi_pos c3, bz_t c3]
            by_cases c4 : 0 ≤ 63 - X.2.2.2 ∧ X.2.2.1.testBit (63 - X.2.2.2).toNat = true
            · rw [fi_pos c4]
              obtain ⟨L, e, r⟩ := yes (wi.mp (Or.inr ⟨c2, c3, c4⟩))
              exact ⟨L, ⟨⟨ph, lh, fun _ => ⟨rh, bh, fun _ => ⟨fun _ => ⟨fun z => absurd z (by decide), fun _ => ⟨ch, trivial⟩⟩, fun z => absurd c2 z⟩, fun z => absurd rfl z⟩, fun z => absurd q z⟩, e⟩, r⟩
            · rw [fi_neg c4]
              obtain ⟨L, e, r⟩ := no (fun z => (wi.mpr z).elim c1 (fun w => c4 w.2.2))
              exact ⟨L, ⟨⟨ph, lh, fun _ => ⟨rh, bh, fun _ => ⟨fun _ => ⟨fun z => absurd z (by decide), fun _ => ⟨ch, trivial⟩⟩, fun z => absurd c2 z⟩, fun z => absurd rfl z⟩, fun z => absurd q z⟩, e⟩, r⟩
          · rw [fi_neg c3, bz_f c3]
            obtain ⟨L, e, r⟩ := no (fun z => (wi.mpr z).elim c1 (fun w => c3 w.2.1))
            exact ⟨L, ⟨⟨ph, lh, fun _ => ⟨rh, bh, fun _ => ⟨fun _ => ⟨fun _ => trivial, fun z => absurd rfl z⟩, fun z => absurd c2 z⟩, fun z => absurd rfl z⟩, fun z => absurd q z⟩, e⟩, r⟩
        · rw [fi_neg c2]
          obtain ⟨L, e, r⟩ := no (fun z => (wi.mpr z).elim c1 (fun w => c2 w.1))
          exact ⟨L, ⟨⟨ph, lh, fun _ => ⟨rh, bh, fun _ => ⟨fun z => absurd z c2, fun _ => trivial⟩, fun z => absurd rfl z⟩, fun z => absurd q z⟩, e⟩, r⟩
    · rw [fi_neg q, s382, propext (bzo (c := X.2.1 = true))]
      have kF : toF X := by
        by_cases y : X.1 = 1
        · exact Or.inr ⟨y, by omega⟩
        · have z0 := (gX.2.2.2 h1).mpr (by omega)
          have := hz (by omega)
          rw [z0, bln_0] at q
          omega
      have kB : toB b md X := Or.inl kF
      obtain ⟨L, e, r⟩ := X99_beyond o3 hb X.2.1
      unfold toI GX99_toInteger_119
      dsimp only
      rw [fi_pos kB, fi_pos kB, hng]
      refine ⟨L, ⟨⟨ph, lh, fun z => absurd z q, fun _ => trivial⟩, ?_⟩, rs_0t f3 r⟩
      cases hs : X.2.1
      · rw [fi_neg (by decide)]
        rw [hs, bz_f (show ¬ false = true by decide)] at e
        rw [e]
      · rw [fi_pos rfl]
        rw [hs, bz_t rfl] at e
        rw [e]
  unfold HX99_toInteger HX99_toInteger_0 GX99_toInteger GX99_toInteger_0 GX99_toInteger_44 GX99_toInteger_45
  dsimp only
  rw [cl0, v0.2.1, propext (bzo (c := X.2.1 = true)), show (M.1 3 (M.2.2 375 f 0) 0 = Int32.ofInt 1) = (X.1 = 1) from k1, show (M.1 3 (M.2.2 375 f 0) 0 = 0) = (X.1 = 0) from k0, show (M.1 3 (M.2.2 375 f 0) 0 = Int32.ofInt 2) = (X.1 = 2) from k2]
  by_cases q1 : X.1 = 1
  · rw [fi_pos q1]
    obtain ⟨L, ⟨h, e⟩, r⟩ := R50 (by omega)
    exact ⟨L, ⟨⟨fun _ => h, fun z => absurd q1 z⟩, e⟩, r⟩
  · rw [fi_neg q1]
    by_cases q0 : X.1 = 0
    · rw [fi_pos q0]
      obtain ⟨L, ⟨h, e⟩, r⟩ := R50 (by omega)
      exact ⟨L, ⟨⟨fun z => absurd z q1, fun _ => ⟨fun _ => h, fun z => absurd q0 z⟩⟩, e⟩, r⟩
    · rw [fi_neg q0]
      have kB : toB b md X := Or.inl (Or.inl (by omega))
      unfold toI
      rw [fi_pos kB, fi_pos kB]
      have fin' : ∀ ng : Bool, ng = (X.2.1 && decide (X.1 ≤ 2)) → ∃ L, GX99_beyond f (bz (ng = true)) (nI b) M = (tlv b (lN (lim b (X.2.1 && decide (X.1 ≤ 2)))) (X.2.1 && decide (X.1 ≤ 2)), L) ∧ Rs f 16 M L := fun ng h => by
        rw [← h]
        exact X99_beyond o hb ng
      have H : (X.1 = 1 → HX99_toInteger_50 f (nI b) (nI md) M) ∧ (¬ X.1 = 1 → (X.1 = 0 → HX99_toInteger_50 f (nI b) (nI md) M) ∧ (¬ X.1 = 0 → True)) := ⟨fun z => absurd z q1, fun _ => ⟨fun z => absurd z q0, fun _ => trivial⟩⟩
      by_cases q2 : X.1 = 2
      · rw [fi_pos q2]
        by_cases q3 : X.2.1 = true
        · rw [fi_pos q3]
          obtain ⟨L, e, r⟩ := fin' true (by rw [q3, decide_eq_true (show X.1 ≤ 2 by omega)]; rfl)
          rw [bz_t rfl] at e
          rw [e]
          exact ⟨L, ⟨H, rfl⟩, r⟩
        · rw [fi_neg q3]
          obtain ⟨L, e, r⟩ := fin' false (by rw [Bool.eq_false_iff.mpr q3]; rfl)
          rw [bz_f (show ¬ false = true by decide)] at e
          rw [e]
          exact ⟨L, ⟨H, rfl⟩, r⟩
      · rw [fi_neg q2]
        obtain ⟨L, e, r⟩ := fin' false (by rw [decide_eq_false (show ¬ X.1 ≤ 2 by omega), Bool.and_false])
        rw [bz_f (show ¬ false = true by decide)] at e
        rw [e]
        exact ⟨L, ⟨H, rfl⟩, r⟩
/-- a whole number is rounded, with a sign -/
theorem fi_83 (o : FlO f M) (ht : t ≤ 1) (hm : md ≤ 4) (hs : M.1 382 f 0 = bz (sg = true)) (hx : ul x ≠ 0) : ∃ L, (HX99_fromInteger_83 f (nI t) (nI md) (M.2.2 379 f 0) x M ∧ GX99_fromInteger_83 f (nI t) (nI md) (M.2.2 379 f 0) x M = (lN (rnd t md sg (ul x) 0 false).1, L)) ∧ Rs f (rnd t md sg (ul x) 0 false).2 M L := by
  obtain ⟨n1, l1, -, -, -⟩ := fl_one o
  obtain ⟨K, ⟨ph, pg⟩, pa, pb⟩ := X99_put o.1 n1 l1 x
  have pr := rs_a (f := f) (Or.inl rfl) pa
  have po := frF_o o pr.1
  have r1 := rs_i (f := f) (g := 383) (v := Int32.ofInt 0) (Or.inr rfl) po.1
  have o1 := frF_o po r1.1
  have r2 := rs_m (f := f) (c := False) o1.1
  rw [bz_f (c := False) (fun z => z)] at r2
  have o2 := frF_o o1 r2.1
  have eK : K.2.2 = M.2.2 := by rw [pa.2.1]
  have hK : K.1 382 f 0 = bz (sg = true) := (pa.2.2 382 f 0 (fun z => by omega)).trans hs
  unfold HX99_fromInteger_83 GX99_fromInteger_83
  dsimp only
  rw [pg]
  obtain ⟨L, ⟨h, e⟩, r⟩ := X99_rounded (M := fm_sI (fm_sI K 383 f 0 (Int32.ofInt 0)) 381 f 0 (Int32.ofInt 0)) (A := ul x) (sg := sg) (sc := 0) (mo := false) o2 ht hm
    (bh_I (by decide) (bh_I (by decide) (by show BH K (K.2.2 379 f 0) _; rw [eK]; exact pb))) hx
    ((oI (fun q => by omega)).trans ((oI (fun q => by omega)).trans hK)) ((oI (fun q => by omega)).trans (sI_at _ _ _ _ _)) ((sI_at _ _ _ _ _).trans (bz_f (by decide)).symm) (by omega)
  rw [e]
  exact ⟨L, ⟨⟨ph, h, trivial⟩, rfl⟩, rs_0t pr (rs_0t r1 (rs_0t r2 r))⟩
theorem X99_fromInteger (o : FlO f M) (hb : b < 4) (ht : t ≤ 1) (hm : md ≤ 4) (v : Int64) :
    ∃ L, (HX99_fromInteger f v (nI b) (nI t) (nI md) M ∧ GX99_fromInteger f v (nI b) (nI t) (nI md) M = (lN (finF t md (frI b v)).1, L)) ∧ Rs f (finF t md (frI b v)).2 M L := by
  have own : (HX99_fromInteger_24 f (nI b) (nI t) (nI md) (ownI b v) M → HX99_fromInteger f v (nI b) (nI t) (nI md) M) ∧ GX99_fromInteger f v (nI b) (nI t) (nI md) M = GX99_fromInteger_24 f (nI b) (nI t) (nI md) (ownI b v) M := by
    unfold HX99_fromInteger HX99_fromInteger_0 GX99_fromInteger GX99_fromInteger_0 ownI
    rcases (show b = 0 ∨ b = 1 ∨ b = 2 ∨ b = 3 by omega) with q | q | q | q <;> subst q
    · exact ⟨fun h => ⟨fun _ => h, fun z => absurd rfl z⟩, fi_pos (show nI 0 = 0 from rfl)⟩
    · exact ⟨fun h => ⟨fun z => absurd z (by decide), fun _ => ⟨fun _ => h, fun z => absurd rfl z⟩⟩, (fi_neg (show ¬ nI 1 = 0 by decide)).trans (fi_pos (show nI 1 = Int32.ofInt 1 from rfl))⟩
    · exact ⟨fun h => ⟨fun z => absurd z (by decide), fun _ => ⟨fun z => absurd z (by decide), fun _ => h⟩⟩, (fi_neg (show ¬ nI 2 = 0 by decide)).trans (fi_neg (show ¬ nI 2 = Int32.ofInt 1 by decide))⟩
    · exact ⟨fun h => ⟨fun z => absurd z (by decide), fun _ => ⟨fun z => absurd z (by decide), fun _ => h⟩⟩, (fi_neg (show ¬ nI 3 = 0 by decide)).trans (fi_neg (show ¬ nI 3 = Int32.ofInt 1 by decide))⟩
  have pos1 : b = 1 → 0 ≤ lg_cmp (ownI b v) (Int64.ofInt 0) := fun q => by
    subst q
    rw [nneg_l]
    unfold ownI
    rw [if_neg (by decide), if_pos rfl, ul_and, show ul (Int64.ofInt 4294967295) = 2 ^ 32 - 1 by decide, Nat.and_two_pow_sub_one_eq_mod]
    have := Nat.mod_lt (ul v) (show 0 < 2 ^ 32 by decide)
    have : (2 : Nat) ^ 32 = 4294967296 := by decide
    omega
  suffices ∃ L, (HX99_fromInteger_24 f (nI b) (nI t) (nI md) (ownI b v) M ∧ GX99_fromInteger_24 f (nI b) (nI t) (nI md) (ownI b v) M = (lN (finF t md (frI b v)).1, L)) ∧ Rs f (finF t md (frI b v)).2 M L by
    obtain ⟨L, ⟨h, e⟩, r⟩ := this
    exact ⟨L, ⟨own.1 h, own.2.trans e⟩, r⟩
  have R59 : ∀ ng : Bool, ng = ngI b (ownI b v) → ¬ ul (ownI b v) = 0 → ∃ L, (HX99_fromInteger_59 f (nI t) (nI md) (ownI b v) f (bz (ng = true)) M ∧ GX99_fromInteger_59 f (nI t) (nI md) (ownI b v) f (bz (ng = true)) M = (lN (finF t md (frI b v)).1, L)) ∧ Rs f (finF t md (frI b v)).2 M L := fun ng h hx => by
    have r1 := rs_i (f := f) (g := 382) (v := bz (ng = true)) (Or.inl rfl) o.1
    have o1 := frF_o o r1.1
    have s1 : (fm_sI M 382 f 0 (bz (ng = true))).1 382 f 0 = bz (ng = true) := sI_at _ _ _ _ _
    have hxl := ul_lt (ownI b v)
    have hn : ul (-(ownI b v)) ≠ 0 := by
      rw [ul_neg]
      omega
    unfold HX99_fromInteger_59 GX99_fromInteger_59
    dsimp only
    rw [s1, propext (bzo (c := ng = true)), zsub]
    have fr : frI b v = (1, ng, ul (if ng = true then -(ownI b v) else ownI b v), 0, false) := by
      unfold frI
      rw [← h]
      cases ng
      · simp only [Bool.false_eq_true, if_false, if_neg hx]
      · simp only [if_true, if_neg hn]
    rw [fr, fin_1]
    by_cases q : ng = true
    · rw [fi_pos q, if_pos q]
      obtain ⟨L, ⟨a, e⟩, r⟩ := fi_83 (sg := ng) (x := -(ownI b v)) (md := md) o1 ht hm s1 hn
      exact ⟨L, ⟨⟨fun _ => a, fun z => absurd q z⟩, e⟩, rs_0t r1 r⟩
    · rw [fi_neg q, if_neg q]
      obtain ⟨L, ⟨a, e⟩, r⟩ := fi_83 (sg := ng) (x := ownI b v) (md := md) o1 ht hm s1 hx
      exact ⟨L, ⟨⟨fun z => absurd z q, fun _ => a⟩, e⟩, rs_0t r1 r⟩
  unfold HX99_fromInteger_24 GX99_fromInteger_24 HX99_fromInteger_58 GX99_fromInteger_58
  dsimp only
  rw [propext (l0 (ownI b v))]
  by_cases q0 : ul (ownI b v) = 0
  · rw [fi_pos q0]
    have ng0 : ngI b (ownI b v) = false := by
      unfold ngI
      rw [decide_eq_false (show ¬ lg_cmp (ownI b v) (Int64.ofInt 0) < 0 from fun z => by have := (neg_l _).mp z; omega), Bool.and_false]
    have fr : frI b v = (0, false, 0, 0, false) := by
      unfold frI
      rw [ng0]
      simp only [Bool.false_eq_true, if_false, q0, if_true]
    have z := X99_zero (f := f) (M := M) ht false
    rw [bz_f (show ¬ false = true by decide)] at z
    rw [z, fr, fin_0]
    exact ⟨M, ⟨⟨fun _ => trivial, fun y => absurd q0 y⟩, rfl⟩, rs_r o.1⟩
  · rw [fi_neg q0]
    have f0 := R59 false
    have f1 := R59 true
    rw [bz_f (show ¬ false = true by decide)] at f0
    rw [bz_t rfl] at f1
    have c3 : (nI b = Int32.ofInt 3) = (b = 3) := propext (ni_i (b := 3) (by omega) (by decide))
    rw [c3]
    by_cases q1 : 0 ≤ lg_cmp (ownI b v) (Int64.ofInt 0)
    · rw [fi_pos q1]
      obtain ⟨L, ⟨h, e⟩, r⟩ := f0 (by unfold ngI; rw [decide_eq_false (show ¬ lg_cmp (ownI b v) (Int64.ofInt 0) < 0 from Int32.not_lt.mpr q1), Bool.and_false]) q0
      exact ⟨L, ⟨⟨fun z => absurd z q0, fun _ => ⟨fun _ => h, fun z => absurd q1 z⟩⟩, e⟩, r⟩
    · rw [fi_neg q1]
      by_cases q3 : b = 3
      · rw [fi_pos q3]
        obtain ⟨L, ⟨h, e⟩, r⟩ := f0 (by unfold ngI; rw [q3]; rfl) q0
        exact ⟨L, ⟨⟨fun z => absurd z q0, fun _ => ⟨fun z => absurd z q1, fun _ => ⟨fun _ => h, fun z => absurd q3 z⟩⟩⟩, e⟩, r⟩
      · rw [fi_neg q3]
        have b2 : b % 2 = 0 := by
          have : b ≠ 1 := fun z => q1 (pos1 z)
          omega
        obtain ⟨L, ⟨h, e⟩, r⟩ := f1 (by unfold ngI; rw [decide_eq_true b2, decide_eq_true (show lg_cmp (ownI b v) (Int64.ofInt 0) < 0 from Int32.not_le.mp q1)]; rfl) q0
        exact ⟨L, ⟨⟨fun z => absurd z q0, fun _ => ⟨fun z => absurd z q1, fun _ => ⟨fun z => absurd z q3, fun _ => h⟩⟩⟩, e⟩, r⟩
end Ua
