/-! floats: the component's unit: comparing, choosing -/
set_option maxRecDepth 100000
def cmT (r : Nat) (o : Int) : Bool := if r = 0 then decide (o ≤ 0) else if r = 1 then decide (o < 0) else decide (o = 0)
def cmV (r : Nat) (X Y : UU) : Int64 × Nat := if 3 ≤ X.1 ∨ 3 ≤ Y.1 then (lN 0, if r < 2 ∨ X.1 = 4 ∨ Y.1 = 4 then 16 else 0) else (lN (if cmT r (ordU X Y) = true then 1 else 0), 0)
/-- whether the first one is the less: those that are alike by the sign -/
def lsB (X : UU) (o : Int) : Bool := if o = 0 then X.2.1 else decide (o < 0)
def chB (t r : Nat) (x y : Int64) (X Y : UU) : Int64 := if 3 ≤ X.1 ∧ 3 ≤ Y.1 then lN (qN t) else if 3 ≤ X.1 then y else if 3 ≤ Y.1 then x else if lsB X (ordU X Y) = decide (r = 0) then x else y
section Ch
variable {u rg b md t : Nat} {c : Nat → Nat} {M N K : FM} {s : Fs} {w : Int32} {X Y : UU} {S : Nat → Prop}
/-- two taken apart, with their bits -/
theorem take2 (o : FlU u c rg M) (v : VFc u c rg M s) (ht : t ≤ 1) {i j : Nat} (hi : i < 32) (hj : j < 32) : ∃ M1 M2, (HX59_take u (nI i) (c (10 + t)) (c 0) M ∧ GX59_take u (nI i) (c (10 + t)) (c 0) M = M1) ∧ (HX59_take u (nI j) (c (10 + t)) (c 1) M1 ∧ GX59_take u (nI j) (c (10 + t)) (c 1) M1 = M2) ∧
    FlU u c rg M1 ∧ FlU u c rg M2 ∧ VFc u c rg M2 s ∧ FrU u c rg M M2 ∧ Tk c 0 M2 (rdU t i s) ∧ Tk c 1 M2 (rdU t j s) ∧ M2.2.1 118 (c 0) 0 = bO t (s.1 i) ∧ M2.2.1 118 (c 1) 0 = bO t (s.1 j) := by
  obtain ⟨th, tc, tv, tn, tb⟩ := X59_take (S := fun j => j = 0) o v ht hi (show 0 < 4 by decide) rfl
  have o1 := flU_c o tc
  have v1 := vFc_c o v tc
  rw [sFl_0] at v1
  obtain ⟨uh, uc, uv, un, ub⟩ := X59_take (S := fun j => j = 1) o1 v1 ht hj (show 1 < 4 by decide) rfl
  have o2 := flU_c o1 uc
  have v2 := vFc_c o1 v1 uc
  rw [sFl_0] at v2
  have x1 : Tk c 0 (GX59_take u (nI i) (c (10 + t)) (c 0) M) (rdU t i s) := ⟨tv, fun y => tn (by have : (upk t (bO t (s.1 i))).1 = 1 := y; omega)⟩
  have y1 : Tk c 1 (GX59_take u (nI j) (c (10 + t)) (c 1) (GX59_take u (nI i) (c (10 + t)) (c 0) M)) (rdU t j s) := ⟨uv, fun y => un (by have : (upk t (bO t (s.1 j))).1 = 1 := y; omega)⟩
  exact ⟨_, _, ⟨th, rfl⟩, ⟨uh, rfl⟩, o1, o2, v2, frU_t (frU_c tc.1) (frU_c uc.1), tk_k o1.1 uc (by decide) (by decide) x1, y1, (frC_b o1.1 uc.1 (by decide) (by decide)).trans tb, ub⟩
theorem X59_compare (o : FlU u c rg M) (v : VFc u c rg M s) (ht : t ≤ 1) :
    ∃ N, (HX59_compare u w (c (10 + t)) M ∧ GX59_compare u w (c (10 + t)) M = ((if pt w 12 3 < 3 then Int32.ofInt 1 else Int32.ofInt (-1)), N)) ∧
      (if pt w 12 3 < 3 then GvC u c rg s (cmV (pt w 12 3) (rdU t (pt w 15 5) s) (rdU t (pt w 20 5) s)) M N else N = M) := by
  have h8 : pt w 12 3 < 8 := pt_lt w 12 3
  have le2 : (nI (pt w 12 3) ≤ Int32.ofInt 2) = (pt w 12 3 < 3) := propext (by
    have := ni_le (z := 2) (k := pt w 12 3) (by omega)
    rw [this]
    omega)
  have lt2 : (nI (pt w 12 3) < Int32.ofInt 2) = (pt w 12 3 < 2) := propext (by
    have := ni_lt (z := 2) (k := pt w 12 3) (by omega)
    rw [this]
    omega)
  have c0 : (nI (pt w 12 3) = 0) = (pt w 12 3 = 0) := propext (ni_i (b := 0) (by omega) (by decide))
  have c1 : (nI (pt w 12 3) = Int32.ofInt 1) = (pt w 12 3 = 1) := propext (ni_i (b := 1) (by omega) (by decide))
  obtain ⟨e5, e6, -, -, -⟩ := e105 o.1
  have gX := rdU_g ht (pt w 15 5) s
  have gY := rdU_g ht (pt w 20 5) s
  obtain ⟨M1, M2, ⟨h1, g1⟩, ⟨h2, g2⟩, o1, o2, v2, f2, x2, y2, -, -⟩ := take2 o v ht (pt_lt w 15 5) (pt_lt w 20 5)
  unfold HX59_compare HX59_compare_0 GX59_compare GX59_compare_0
  dsimp only
  rw [p12]
  dsimp only
  rw [p15]
  dsimp only
  rw [le2, c0, c1, e5, g1, p20]
  dsimp only
  rw [(e105 o1.1).2.1, g2]
  obtain ⟨e5, e6, -, -, e4⟩ := e105 o2.1
  rw [e5, x2.1.1, X72_isNone gX.1]
  dsimp only
  rw [e6, y2.1.1, X72_isNone gY.1]
  dsimp only
  rw [fi_bz, fi_bz]
  generalize rdU t (pt w 15 5) s = X at *
  generalize rdU t (pt w 20 5) s = Y at *
  generalize pt w 12 3 = r at *
  have Give : ∀ (K : FM) (fl : Nat) (x : Int64), FlU u c rg K → VFc u c rg K (sFl fl s) → FrU u c rg M K → cmV r X Y = (x, fl) → ∃ N, GX59_give u x K = (Int32.ofInt 1, N) ∧ GvC u c rg s (cmV r X Y) M N := fun K fl x oK vK fK e => by
    obtain ⟨N, n1, n2, n3⟩ := X59_give oK vK x
    rw [e]
    exact ⟨N, n1, frU_t fK n2, n3⟩
  have R73 : (3 ≤ X.1 ∨ 3 ≤ Y.1) → ∃ N, (HX59_compare_73 u (nI r) M2 ∧ GX59_compare_73 u (nI r) M2 = (Int32.ofInt 1, N)) ∧ GvC u c rg s (cmV r X Y) M N := fun q => by
    have R109 : ∀ p : Prop, (p ↔ r < 2 ∨ X.1 = 4 ∨ Y.1 = 4) → ∃ N, (HX59_compare_109 u (bz p) M2 ∧ GX59_compare_109 u (bz p) M2 = (Int32.ofInt 1, N)) ∧ GvC u c rg s (cmV r X Y) M N := fun p hp => by
      have K126 : ∀ fl, fl < 4294967296 → cmV r X Y = (lN 0, fl) → ∃ N, (HX59_compare_126 u (c 12) (nI fl) M2 ∧ GX59_compare_126 u (c 12) (nI fl) M2 = (Int32.ofInt 1, N)) ∧ GvC u c rg s (cmV r X Y) M N := fun fl hf e => by
        obtain ⟨h, f⟩ := cf_f (S := fun _ => True) (fl := fl) o2.1 hf
        obtain ⟨N, n1, n2⟩ := Give _ fl (lN 0) (flU_c o2 f) (vFc_c o2 v2 f) (frU_t f2 (frU_c f.1)) e
        unfold HX59_compare_126 GX59_compare_126
        dsimp only
        have e0 : GX59_give u (Int64.ofInt 0) (GX60_raise (c 12) (nI fl) M2) = (Int32.ofInt 1, N) := n1
        rw [e0]
        exact ⟨N, ⟨⟨h, trivial⟩, rfl⟩, n2⟩
      unfold HX59_compare_109 GX59_compare_109
      rw [fi_bz, e4]
      by_cases y : p
      · rw [fi_pos y, bz_t y]
        obtain ⟨N, ⟨h, e⟩, n⟩ := K126 16 (by decide) (by unfold cmV; rw [if_pos q, if_pos (hp.mp y)])
        exact ⟨N, ⟨⟨fun z => absurd z (by decide), fun _ => h⟩, e⟩, n⟩
      · rw [fi_neg y, bz_f y]
        obtain ⟨N, ⟨h, e⟩, n⟩ := K126 0 (by decide) (by unfold cmV; rw [if_pos q, if_neg (fun z => y (hp.mpr z))])
        exact ⟨N, ⟨⟨fun _ => h, fun z => absurd rfl z⟩, e⟩, n⟩
    have one := fun (h : r < 2 ∨ X.1 = 4 ∨ Y.1 = 4) => R109 True ⟨fun _ => h, fun _ => trivial⟩
    have zero := fun (h : ¬ (r < 2 ∨ X.1 = 4 ∨ Y.1 = 4)) => R109 False ⟨fun z => z.elim, fun z => h z⟩
    rw [bz_t trivial] at one
    rw [bz_f (fun z => z)] at zero
    unfold HX59_compare_73 GX59_compare_73 HX59_compare_104 GX59_compare_104
    dsimp only
    rw [lt2, e5, X71_is4 x2.1]
    dsimp only
    rw [e6, X71_is4 y2.1]
    dsimp only
    rw [fi_bz, fi_bz]
    by_cases q2 : r < 2
    · obtain ⟨N, ⟨h, e⟩, n⟩ := one (Or.inl q2)
      rw [fi_pos q2]
      exact ⟨N, ⟨⟨fun _ => h, fun z => absurd q2 z⟩, e⟩, n⟩
    · rw [fi_neg q2]
      by_cases q3 : X.1 = 4
      · obtain ⟨N, ⟨h, e⟩, n⟩ := one (Or.inr (Or.inl q3))
        rw [fi_pos q3, bz_t q3]
        exact ⟨N, ⟨⟨fun z => absurd z q2, fun _ => ⟨fun z => absurd z (by decide), fun _ => h⟩⟩, e⟩, n⟩
      · rw [fi_neg q3, bz_f q3]
        by_cases q4 : Y.1 = 4
        · obtain ⟨N, ⟨h, e⟩, n⟩ := one (Or.inr (Or.inr q4))
          rw [fi_pos q4, bz_t q4]
          exact ⟨N, ⟨⟨fun z => absurd z q2, fun _ => ⟨fun _ => ⟨fun z => absurd z (by decide), fun _ => h⟩, fun z => absurd rfl z⟩⟩, e⟩, n⟩
        · obtain ⟨N, ⟨h, e⟩, n⟩ := zero (fun z => z.elim q2 (fun z => z.elim q3 q4))
          rw [fi_neg q4, bz_f q4]
          exact ⟨N, ⟨⟨fun z => absurd z q2, fun _ => ⟨fun _ => ⟨fun _ => h, fun z => absurd rfl z⟩, fun z => absurd rfl z⟩⟩, e⟩, n⟩
  by_cases q : r < 3
  · rw [fi_pos q, if_pos q]
    by_cases q3 : 3 ≤ X.1
    · obtain ⟨N, ⟨h, e⟩, n⟩ := R73 (Or.inl q3)
      rw [fi_pos q3, bz_t q3]
      refine ⟨N, ⟨⟨fun _ => ⟨h1, h2, fun z => absurd z (by decide), fun _ => h⟩, fun z => absurd q z⟩, e⟩, ?_⟩
      rw [if_pos q]
      exact n
    · rw [fi_neg q3, bz_f q3]
      by_cases q4 : 3 ≤ Y.1
      · obtain ⟨N, ⟨h, e⟩, n⟩ := R73 (Or.inr q4)
        rw [fi_pos q4, bz_t q4]
        refine ⟨N, ⟨⟨fun _ => ⟨h1, h2, fun _ => ⟨fun z => absurd z (by decide), fun _ => h⟩, fun z => absurd rfl z⟩, fun z => absurd q z⟩, e⟩, ?_⟩
        rw [if_pos q]
        exact n
      · rw [fi_neg q4, bz_f q4]
        obtain ⟨K, ⟨hc, gc⟩, cc, -, -, -⟩ := X71_compare o2.1 x2 y2 (by omega) (by omega) gX gY
        have oK := flU_c o2 cc
        have vK := vFc_c o2 v2 cc
        have ob := ordU_b X Y
        have eV : cmV r X Y = (lN (if cmT r (ordU X Y) = true then 1 else 0), 0) := by
          unfold cmV
          rw [if_neg (fun z => z.elim q3 q4)]
        rw [e5, e6, gc]
        dsimp only
        have gt0 : (0 < Int32.ofInt (ordU X Y)) = (0 < ordU X Y) := propext (iz_lt (a := 0) (b := ordU X Y) (by omega))
        have ge0 : (0 ≤ Int32.ofInt (ordU X Y)) = (0 ≤ ordU X Y) := propext (iz_le (a := 0) (b := ordU X Y) (by omega))
        have eq0 : (Int32.ofInt (ordU X Y) = 0) = (ordU X Y = 0) := propext (iz_eq (a := ordU X Y) (b := 0) (by omega))
        rw [gt0, ge0, eq0]
        have g0 := Give K 0 (lN 0) oK vK (frU_t f2 (frU_c cc.1))
        have g1 := Give K 0 (lN 1) oK vK (frU_t f2 (frU_c cc.1))
        have fin' : ∀ R : Int32 × FM, (cmT r (ordU X Y) = true → R = GX59_give u (lN 1) K) → (¬ cmT r (ordU X Y) = true → R = GX59_give u (lN 0) K) → ∃ N, R = (Int32.ofInt 1, N) ∧ GvC u c rg s (cmV r X Y) M N := fun R r1 r0 => by
          by_cases z : cmT r (ordU X Y) = true
          · rw [if_pos z] at eV
            rw [r1 z]
            exact g1 eV
          · rw [if_neg z] at eV
            rw [r0 z]
            exact g0 eV
        have ex : ∃ N, fi (r = 0) (fi (0 < ordU X Y) (GX59_compare_183 u K) (GX59_compare_179 u K)) (fi (r = 1) (fi (0 ≤ ordU X Y) (GX59_compare_183 u K) (GX59_compare_179 u K)) (fi (ordU X Y = 0) (GX59_compare_179 u K) (GX59_compare_183 u K))) = (Int32.ofInt 1, N) ∧ GvC u c rg s (cmV r X Y) M N := by
          refine fin' _ (fun z => ?_) (fun z => ?_)
          · unfold cmT at z
            by_cases y0 : r = 0
            · rw [if_pos y0] at z
              have z := of_decide_eq_true z
              rw [fi_pos y0, fi_neg (show ¬ 0 < ordU X Y by omega)]
              rfl
            · rw [if_neg y0] at z
              rw [fi_neg y0]
              by_cases y1 : r = 1
              · rw [if_pos y1] at z
                have z := of_decide_eq_true z
                rw [fi_pos y1, fi_neg (show ¬ 0 ≤ ordU X Y by omega)]
                rfl
              · rw [if_neg y1] at z
                have z := of_decide_eq_true z
                rw [fi_neg y1, fi_pos z]
                rfl
          · unfold cmT at z
            by_cases y0 : r = 0
            · rw [if_pos y0] at z
              have z : ¬ ordU X Y ≤ 0 := fun y => z (decide_eq_true y)
              rw [fi_pos y0, fi_pos (show 0 < ordU X Y by omega)]
              rfl
            · rw [if_neg y0] at z
              rw [fi_neg y0]
              by_cases y1 : r = 1
              · rw [if_pos y1] at z
                have z : ¬ ordU X Y < 0 := fun y => z (decide_eq_true y)
                rw [fi_pos y1, fi_pos (show 0 ≤ ordU X Y by omega)]
                rfl
              · rw [if_neg y1] at z
                have z : ¬ ordU X Y = 0 := fun y => z (decide_eq_true y)
                rw [fi_neg y1, fi_neg z]
                rfl
        obtain ⟨N, e, n⟩ := ex
        refine ⟨N, ⟨⟨fun _ => ⟨h1, h2, fun _ => ⟨fun _ => ⟨hc, trivial⟩, fun z => absurd rfl z⟩, fun z => absurd rfl z⟩, fun z => absurd q z⟩, e⟩, ?_⟩
        rw [if_pos q]
        exact n
  · rw [fi_neg q, if_neg q]
    refine ⟨M, ⟨⟨fun z => absurd z q, fun _ => trivial⟩, rfl⟩, ?_⟩
    rw [if_neg q]
end Ch
