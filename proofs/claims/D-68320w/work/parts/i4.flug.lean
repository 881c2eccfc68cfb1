/-! floats: the component's unit: choosing -/
set_option maxRecDepth 100000
section Ci
variable {u rg b md t : Nat} {c : Nat → Nat} {M N K : FM} {s : Fs} {w : Int32} {X Y : UU} {S : Nat → Prop}
theorem X59_choose (o : FlU u c rg M) (v : VFc u c rg M s) (ht : t ≤ 1) :
    ∃ N, (HX59_choose u w (c (10 + t)) M ∧ GX59_choose u w (c (10 + t)) M = ((if pt w 12 3 < 2 then Int32.ofInt 0 else Int32.ofInt (-1)), N)) ∧
      (if pt w 12 3 < 2 then WrC u c rg t w s (ul (chB t (pt w 12 3) (bO t (s.1 (pt w 15 5))) (bO t (s.1 (pt w 20 5))) (rdU t (pt w 15 5) s) (rdU t (pt w 20 5) s)), if (rdU t (pt w 15 5) s).1 = 4 ∨ (rdU t (pt w 20 5) s).1 = 4 then 16 else 0) M N else N = M) := by
  have h8 : pt w 12 3 < 8 := pt_lt w 12 3
  have le1 : (nI (pt w 12 3) ≤ Int32.ofInt 1) = (pt w 12 3 < 2) := propext (by
    have := ni_le (z := 1) (k := pt w 12 3) (by omega)
    rw [this]
    omega)
  have c0 : (nI (pt w 12 3) = 0) = (pt w 12 3 = 0) := propext (ni_i (b := 0) (by omega) (by decide))
  obtain ⟨e5, e6, -, -, -⟩ := e105 o.1
  have gX := rdU_g ht (pt w 15 5) s
  have gY := rdU_g ht (pt w 20 5) s
  obtain ⟨M1, M2, ⟨h1, g1⟩, ⟨h2, g2⟩, o1, o2, v2, f2, x2, y2, b2, d2⟩ := take2 o v ht (pt_lt w 15 5) (pt_lt w 20 5)
  unfold HX59_choose HX59_choose_0 GX59_choose GX59_choose_0
  dsimp only
  rw [p12]
  dsimp only
  rw [p15]
  dsimp only
  rw [le1, e5, g1, p20]
  dsimp only
  rw [(e105 o1.1).2.1, g2]
  obtain ⟨e5, e6, -, -, e4⟩ := e105 o2.1
  rw [e5, x2.1.1, X72_isNone gX.1]
  dsimp only
  rw [e6, y2.1.1, X72_isNone gY.1]
  dsimp only
  rw [e5, X71_is4 x2.1]
  dsimp only
  rw [e6, X71_is4 y2.1]
  dsimp only
  rw [e4, fi_bz, fi_bz]
  generalize rdU t (pt w 15 5) s = X at *
  generalize rdU t (pt w 20 5) s = Y at *
  generalize bO t (s.1 (pt w 15 5)) = x at *
  generalize bO t (s.1 (pt w 20 5)) = y at *
  generalize pt w 12 3 = r at *
  have K107 : ∀ fl, fl < 4294967296 → fl = (if X.1 = 4 ∨ Y.1 = 4 then 16 else 0) → ∃ N, (HX59_choose_107 u w (c (10 + t)) (nI r) (bz (3 ≤ X.1)) (bz (3 ≤ Y.1)) (c 12) (nI fl) M2 ∧ GX59_choose_107 u w (c (10 + t)) (nI r) (bz (3 ≤ X.1)) (bz (3 ≤ Y.1)) (c 12) (nI fl) M2 = (Int32.ofInt 0, N)) ∧
      WrC u c rg t w s (ul (chB t r x y X Y), if X.1 = 4 ∨ Y.1 = 4 then 16 else 0) M N := fun fl hf hfl => by
    rw [← hfl]
    obtain ⟨h3, f3⟩ := cf_f (S := fun _ => True) (fl := fl) o2.1 hf
    obtain ⟨h3', f3'⟩ := cf_f (S := fun _ => False) (fl := fl) o2.1 hf
    have o3 := flU_c o2 f3
    have v3 := vFc_c o2 v2 f3
    have x3 := tk_k o2.1 f3' (show 0 < 4 by decide) (fun z => z) x2
    have y3 := tk_k o2.1 f3' (show 1 < 4 by decide) (fun z => z) y2
    have b3 := (frC_b o2.1 f3'.1 (show 0 < 4 by decide) (fun z => z)).trans b2
    have d3 := (frC_b o2.1 f3'.1 (show 1 < 4 by decide) (fun z => z)).trans d2
    have F3 : FrU u c rg M (GX60_raise (c 12) (nI fl) M2) := frU_t f2 (frU_c f3.1)
    unfold HX59_choose_107 GX59_choose_107
    dsimp only
    generalize GX60_raise (c 12) (nI fl) M2 = M3 at *
    obtain ⟨e5, e6, -, -, e4⟩ := e105 o3.1
    rw [e5, e6, fi_bz, fi_bz]
    have Wr : ∀ (K : FM) (z : Int64), FlU u c rg K → VFc u c rg K (sFl fl s) → FrU u c rg M K → chB t r x y X Y = z → ∃ N, (HX59_write u w (c (10 + t)) z K ∧ GX59_write u w (c (10 + t)) z K = (Int32.ofInt 0, N)) ∧ WrC u c rg t w s (ul (chB t r x y X Y), fl) M N := fun K z oK vK fK e => by
      obtain ⟨n0, N, n1, n2, n3⟩ := X59_write oK vK ht w z
      rw [e]
      refine ⟨N, ⟨n0, n1⟩, frU_t fK n2, ?_⟩
      dsimp only
      rw [lN_ul]
      exact n3
    have R120 : 3 ≤ X.1 ∨ 3 ≤ Y.1 → ∃ N, (HX59_choose_120 u w (c (10 + t)) (bz (3 ≤ X.1)) (bz (3 ≤ Y.1)) M3 ∧ GX59_choose_120 u w (c (10 + t)) (bz (3 ≤ X.1)) (bz (3 ≤ Y.1)) M3 = (Int32.ofInt 0, N)) ∧ WrC u c rg t w s (ul (chB t r x y X Y), fl) M N := fun q => by
      have fm := (o3.1.2.2.2.2.1 t (by omega)).2.2.1
      unfold HX59_choose_120 GX59_choose_120 HX59_choose_140 GX59_choose_140 HX59_choose_162 GX59_choose_162
      dsimp only
      rw [fi_bz, fi_bz, X61_quiet ht fm, e5, e6, b3, d3, fi_bz]
      dsimp only
      by_cases q1 : 3 ≤ X.1
      · rw [fi_pos q1, bz_t q1]
        by_cases q2 : 3 ≤ Y.1
        · rw [fi_pos q2, bz_t q2]
          obtain ⟨N, ⟨h, e⟩, n⟩ := Wr M3 (lN (qN t)) o3 v3 F3 (by unfold chB; rw [if_pos ⟨q1, q2⟩])
          rw [e]
          exact ⟨N, ⟨⟨fun z => absurd z (by decide), fun _ => ⟨fun z => absurd z (by decide), fun _ => ⟨h, trivial⟩⟩⟩, rfl⟩, n⟩
        · rw [fi_neg q2, bz_f q2, fi_pos q1]
          obtain ⟨N, ⟨h, e⟩, n⟩ := Wr M3 y o3 v3 F3 (by unfold chB; rw [if_neg (fun z => q2 z.2), if_pos q1])
          rw [e]
          exact ⟨N, ⟨⟨fun z => absurd z (by decide), fun _ => ⟨fun _ => ⟨fun z => absurd z (by decide), fun _ => ⟨h, trivial⟩⟩, fun z => absurd rfl z⟩⟩, rfl⟩, n⟩
      · rw [fi_neg q1, bz_f q1, fi_neg q1]
        obtain ⟨N, ⟨h, e⟩, n⟩ := Wr M3 x o3 v3 F3 (by unfold chB; rw [if_neg (fun z => q1 z.1), if_neg q1, if_pos (q.resolve_left q1)])
        rw [e]
        exact ⟨N, ⟨⟨fun _ => ⟨fun _ => ⟨h, trivial⟩, fun z => absurd rfl z⟩, fun z => absurd rfl z⟩, rfl⟩, n⟩
    by_cases q1 : 3 ≤ X.1
    · rw [fi_pos q1]
      obtain ⟨N, ⟨h, e⟩, n⟩ := R120 (Or.inl q1)
      rw [bz_t q1] at h e ⊢
      exact ⟨N, ⟨⟨h3, fun z => absurd z (by decide), fun _ => h⟩, e⟩, n⟩
    · rw [fi_neg q1]
      by_cases q2 : 3 ≤ Y.1
      · rw [fi_pos q2]
        obtain ⟨N, ⟨h, e⟩, n⟩ := R120 (Or.inr q2)
        rw [bz_f q1, bz_t q2] at h e
        rw [bz_f q1, bz_t q2]
        exact ⟨N, ⟨⟨h3, fun _ => ⟨fun z => absurd z (by decide), fun _ => h⟩, fun z => absurd rfl z⟩, e⟩, n⟩
      · rw [fi_neg q2, bz_f q1, bz_f q2]
        obtain ⟨K, ⟨hc, gc⟩, cc, tk, bk, dk⟩ := X71_compare o3.1 x3 y3 (by omega) (by omega) gX gY
        have oK := flU_c o3 cc
        have vK := vFc_c o3 v3 cc
        rw [sFl_t s hf (by decide), Nat.or_zero] at vK
        have ob := ordU_b X Y
        have FK : FrU u c rg M K := frU_t F3 (frU_c cc.1)
        rw [gc]
        dsimp only
        obtain ⟨e5, e6, -, -, e4⟩ := e105 oK.1
        have ge0 : (0 ≤ Int32.ofInt (ordU X Y)) = (0 ≤ ordU X Y) := propext (iz_le (a := 0) (b := ordU X Y) (by omega))
        have eq0 : (Int32.ofInt (ordU X Y) = 0) = (ordU X Y = 0) := propext (iz_eq (a := ordU X Y) (b := 0) (by omega))
        rw [ge0, eq0, e5, tk.2]
        have R204 : ∀ ls : Bool, ls = lsB X (ordU X Y) → ∃ N, (HX59_choose_204 u w (c (10 + t)) (nI r) (bz (ls = true)) K ∧ GX59_choose_204 u w (c (10 + t)) (nI r) (bz (ls = true)) K = (Int32.ofInt 0, N)) ∧ WrC u c rg t w s (ul (chB t r x y X Y), fl) M N := fun ls hls => by
          have R220 : ∀ z : Bool, z = decide (r = 0) → ∃ N, (HX59_choose_220 u u w (c (10 + t)) (bz (ls = true)) (bz (z = true)) K ∧ GX59_choose_220 u u w (c (10 + t)) (bz (ls = true)) (bz (z = true)) K = (Int32.ofInt 0, N)) ∧ WrC u c rg t w s (ul (chB t r x y X Y), fl) M N := fun z hz => by
            unfold HX59_choose_220 GX59_choose_220 HX59_choose_240 GX59_choose_240
            dsimp only
            rw [propext (bz_ii (s := ls) (z := z)), e5, e6, bk, dk, b3, d3]
            have ech : chB t r x y X Y = if ls = z then x else y := by
              unfold chB
              rw [if_neg (fun z => q1 z.1), if_neg q1, if_neg q2, ← hls, ← hz]
            by_cases q4 : ls = z
            · rw [fi_pos q4]
              obtain ⟨N, ⟨h, e⟩, n⟩ := Wr K x oK vK FK (by rw [ech, if_pos q4])
              rw [e]
              exact ⟨N, ⟨⟨fun _ => ⟨h, trivial⟩, fun z => absurd q4 z⟩, rfl⟩, n⟩
            · rw [fi_neg q4]
              obtain ⟨N, ⟨h, e⟩, n⟩ := Wr K y oK vK FK (by rw [ech, if_neg q4])
              rw [e]
              exact ⟨N, ⟨⟨fun z => absurd z q4, fun _ => ⟨h, trivial⟩⟩, rfl⟩, n⟩
          unfold HX59_choose_204 GX59_choose_204
          rw [c0]
          by_cases q0 : r = 0
          · rw [fi_pos q0]
            obtain ⟨N, ⟨h, e⟩, n⟩ := R220 true (decide_eq_true q0).symm
            rw [bz_t (show true = true from rfl)] at h e
            exact ⟨N, ⟨⟨fun _ => h, fun z => absurd q0 z⟩, e⟩, n⟩
          · rw [fi_neg q0]
            obtain ⟨N, ⟨h, e⟩, n⟩ := R220 false (decide_eq_false q0).symm
            rw [bz_f (show ¬ false = true by decide)] at h e
            exact ⟨N, ⟨⟨fun z => absurd z q0, fun _ => h⟩, e⟩, n⟩
        by_cases y0 : ordU X Y = 0
        · rw [fi_pos y0]
          obtain ⟨N, ⟨h, e⟩, n⟩ := R204 X.2.1 (by unfold lsB; rw [if_pos y0])
          exact ⟨N, ⟨⟨h3, fun _ => ⟨fun _ => ⟨hc, fun _ => h, fun z => absurd y0 z⟩, fun z => absurd rfl z⟩, fun z => absurd rfl z⟩, e⟩, n⟩
        · rw [fi_neg y0]
          by_cases y1 : 0 ≤ ordU X Y
          · rw [fi_pos y1]
            obtain ⟨N, ⟨h, e⟩, n⟩ := R204 false (by unfold lsB; rw [if_neg y0, decide_eq_false (show ¬ ordU X Y < 0 by omega)])
            rw [bz_f (show ¬ false = true by decide)] at h e
            exact ⟨N, ⟨⟨h3, fun _ => ⟨fun _ => ⟨hc, fun z => absurd z y0, fun _ => ⟨fun _ => h, fun z => absurd y1 z⟩⟩, fun z => absurd rfl z⟩, fun z => absurd rfl z⟩, e⟩, n⟩
          · rw [fi_neg y1]
            obtain ⟨N, ⟨h, e⟩, n⟩ := R204 true (by unfold lsB; rw [if_neg y0, decide_eq_true (show ordU X Y < 0 by omega)])
            rw [bz_t (show true = true from rfl)] at h e
            exact ⟨N, ⟨⟨h3, fun _ => ⟨fun _ => ⟨hc, fun z => absurd z y0, fun _ => ⟨fun z => absurd z y1, fun _ => h⟩⟩, fun z => absurd rfl z⟩, fun z => absurd rfl z⟩, e⟩, n⟩
  by_cases q : r < 2
  · rw [fi_pos q, if_pos q]
    unfold HX59_choose_101 GX59_choose_101
    by_cases q3 : X.1 = 4
    · rw [fi_pos q3, bz_t q3]
      obtain ⟨N, ⟨h, e⟩, n⟩ := K107 16 (by decide) (by rw [if_pos (Or.inl q3)])
      refine ⟨N, ⟨⟨fun _ => ⟨h1, h2, fun z => absurd z (by decide), fun _ => h⟩, fun z => absurd q z⟩, e⟩, ?_⟩
      rw [if_pos q]
      exact n
    · rw [fi_neg q3, bz_f q3]
      by_cases q4 : Y.1 = 4
      · rw [fi_pos q4, bz_t q4]
        obtain ⟨N, ⟨h, e⟩, n⟩ := K107 16 (by decide) (by rw [if_pos (Or.inr q4)])
        refine ⟨N, ⟨⟨fun _ => ⟨h1, h2, fun _ => ⟨fun z => absurd z (by decide), fun _ => h⟩, fun z => absurd rfl z⟩, fun z => absurd q z⟩, e⟩, ?_⟩
        rw [if_pos q]
        exact n
      · rw [fi_neg q4, bz_f q4]
        obtain ⟨N, ⟨h, e⟩, n⟩ := K107 0 (by decide) (by rw [if_neg (fun z => z.elim q3 q4)])
        refine ⟨N, ⟨⟨fun _ => ⟨h1, h2, fun _ => ⟨fun _ => h, fun z => absurd rfl z⟩, fun z => absurd rfl z⟩, fun z => absurd q z⟩, e⟩, ?_⟩
        rw [if_pos q]
        exact n
  · rw [fi_neg q, if_neg q]
    refine ⟨M, ⟨⟨fun z => absurd z q, fun _ => trivial⟩, rfl⟩, ?_⟩
    rw [if_neg q]
end Ci
