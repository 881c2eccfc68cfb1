/-! fetching: the component's against the twin's -/
set_option maxRecDepth 100000
/-- what an illegal instruction tells of itself -/
noncomputable def illV (ln rw_ : Int32) : Int64 := fi (ln = Int32.ofInt 2) (rw_.toInt64 &&& Int64.ofInt 65535) (rw_.toInt64 &&& Int64.ofInt 4294967295)
/-- the instruction that is run, both sides -/
def Got (p m : Nat) (Nc Nt : FM) : Prop := Nc.1 219 p 0 = Nt.1 317 m 0 ∧ Nc.1 221 p 0 = Nt.1 318 m 0 ∧ (Nt.1 318 m 0 = Int32.ofInt 2 ∨ Nt.1 318 m 0 = Int32.ofInt 4) ∧ Nt.2.1 319 m 0 = illV (Nc.1 221 p 0) (Nc.1 220 p 0)
def FkS (r k : Nat) (pv : Int64) (lo : Int32) (X : FM) : Prop :=
  (¬ lo &&& Int32.ofInt 3 = Int32.ofInt 3 ∧ X.1 184 k 0 = Int32.ofInt 2 ∧ X.1 183 k 0 = hW lo ∧ X.1 185 k 0 = lo) ∨
  (lo &&& Int32.ofInt 3 = Int32.ofInt 3 ∧ X.1 184 k 0 = Int32.ofInt 4 ∧ ((¬ X.1 180 k 0 = 0 ∧ KcV r X pv (X.1 183 k 0) (X.1 185 k 0) (X.1 184 k 0)) ∨ (X.1 180 k 0 = 0 ∧ X.1 185 k 0 = lo)))
section F6
variable {p h bd a fu rg u t hv kp fd m c1 f1 d1 w1 hq s dd x dk q rq r g sg bl cr np : Nat} {cf : Nat → Nat} {kn : Int32} {o : Option Wt} {fs : Fs} {B Bk Vv : Nat} {K : Rg} {F T : Nat → Nat} {rt : Int32} {tb : Int64} {X Y Nc Mc Mt : FM} {k j : Nat} {pv ad : Int64} {lo : Int32}
theorem fetch_67 (R : RelP p h bd a fu cf rg u t hv kp fd m c1 f1 d1 w1 hq s dd x dk q rq r g sg bl cr np kn o fs B Bk Vv K F T rt tb X Y) (hj : j < 512) (hk : X.2.2 3 kp j = k) (hi : inR pv 2) (hev : ul pv % 2 = 0) (hlo : ld2 r X pv = lo) :
    ∃ X', RelP p h bd a fu cf rg u t hv kp fd m c1 f1 d1 w1 hq s dd x dk q rq r g sg bl cr np kn o fs B Bk Vv K F T rt tb X' Y ∧ Kq p k X X' ∧ GX46_fetch_67 p pv k X = GX46_fetch_127 p pv k X' ∧ (HX46_fetch_127 p pv k X' → HX46_fetch_67 p pv k X) ∧ FkS r k pv lo X' := by
  have RR := relP_ram R
  have np_ := R.1.1.1
  have n := relP_65 R hj
  subst hk
  generalize hk : X.2.2 3 kp j = k at *
  have q1 : Kq p k X (fm_sI X 180 k 0 (Int32.ofInt 0)) := kq_b (kq_r RR.1.1 RR.1.2.1) n (Or.inl rfl)
  obtain ⟨R1, rq1⟩ := relP_kq hj (by rw [hk]; exact q1) (by rw [hk]; exact fun z => absurd (rIe _) z) R
  have lo1 : ld2 r (fm_sI X 180 k 0 (Int32.ofInt 0)) pv = lo := by rw [ld2_q RR.1 rq1 hi hev, hlo]
  have z180 : (fm_sI X 180 k 0 (Int32.ofInt 0)).1 180 k 0 = 0 := rIe _
  have b210 : (fm_sI X 180 k 0 (Int32.ofInt 0)).2.2 210 p 0 = bd := R1.1.1.2.2.1
  have b18 : (fm_sI X 180 k 0 (Int32.ofInt 0)).2.2 18 bd 0 = r := R1.2.2.2.2.2.2.2.2.1.1.2.2.1
  have b215 : (fm_sI X 180 k 0 (Int32.ofInt 0)).2.2 215 p 0 = hv := R1.1.1.2.2.2.2.2.2.2.1
  have n1 : fm_is (fm_sI X 180 k 0 (Int32.ofInt 0)) 65 65 k = true := n
  have np1 := R1.1.1.1
  have RR1 := relP_ram R1
  generalize hM1 : fm_sI X 180 k 0 (Int32.ofInt 0) = M1 at *
  obtain ⟨x, x1, x2, x3, x4⟩ := ld2_lt RR1.1 hi
  have exl : (lN x).toInt32 = lo := by
    rw [← lo1]
    unfold ld2
    rw [x3]
  by_cases c : lo &&& Int32.ofInt 3 = Int32.ofInt 3
  · have q7 : Kq p k X (fm_sI (fm_sI M1 184 k 0 (Int32.ofInt 4)) 185 k 0 lo) := kq_k (kq_k q1 n1 (Or.inr (Or.inl rfl)) _) n1 (Or.inr (Or.inr rfl)) _
    have z7 : (fm_sI (fm_sI M1 184 k 0 (Int32.ofInt 4)) 185 k 0 lo).1 180 k 0 = 0 := by rw [rIf2 _ (by decide), rIf2 _ (by decide), z180]
    obtain ⟨R7, _⟩ := relP_kq hj (by rw [hk]; exact q7) (by rw [hk]; exact fun z => absurd z7 z) R
    refine ⟨_, R7, q7, ?_, fun z => ?_, Or.inr ⟨c, by rw [rIf2 _ (by decide), rIe], Or.inr ⟨z7, rIe _⟩⟩⟩
    · unfold GX46_fetch_67
      try dsimp only
      rw [hM1, b210, b18, x3]
      try dsimp only
      rw [exl, fi_pos c]
    · unfold HX46_fetch_67
      try dsimp only
      rw [hM1, b210, b18, x3]
      try dsimp only
      rw [exl]
      exact ⟨x4, fun _ => z, fun w => absurd c w⟩
  · obtain ⟨e1, e2⟩ := X34_expand RR1.1.1 RR1.1.2.1 R1.1.2.1 x1
    rw [← x2, lo1] at e1 e2
    obtain ⟨K1, K2⟩ := X46_keep (w := hW lo) (rw_ := lo) RR1.1 np1 n1 b210 b18 hi (ln := Int32.ofInt 2) (l := 2) rfl (by decide)
    have zP := bz_z (ul pv % 4096 + 2 ≤ 4096)
    have q7 : Kq p k X (kpR k (bz (ul pv % 4096 + 2 ≤ 4096)) pv (cwr M1 r (pgi pv)) (hW lo) lo (Int32.ofInt 2) M1) := kq_t q1 (kpR_q RR1.1.1 RR1.1.2.1 n1 zP)
    obtain ⟨v0, v1, v2, v3, v4, v5⟩ := kpR_v (k := k) (is := bz (ul pv % 4096 + 2 ≤ 4096)) (at_ := pv) (wr := cwr M1 r (pgi pv)) (w := hW lo) (rw_ := lo) (ln := Int32.ofInt 2) (M := M1)
    have rq7 := kq_ram q7 RR
    obtain ⟨R7, _⟩ := relP_kq (Bk := Bk) hj (by rw [hk]; exact q7) (by
      rw [hk]
      intro hn
      rw [v1, v2, v3, v4, v5]
      refine ⟨hi, hev, 0, Nat.zero_le _, by rw [rq7.2.2.2.2.1, rq1.2.2.2.2.1]; exact (Int64.add_zero _).symm, fun _ => ?_⟩
      unfold KcV
      rw [ld2_q RR.1 rq7 hi hev, hlo]
      exact Or.inl ⟨c, rfl, rfl, rfl⟩) R
    refine ⟨_, R7, q7, ?_, fun z => ?_, Or.inl ⟨c, v4, v3, v5⟩⟩
    · unfold GX46_fetch_67
      try dsimp only
      rw [hM1, b210, b18, x3]
      try dsimp only
      rw [exl, fi_neg c, b215, e2]
      try dsimp only
      rw [K2]
    · unfold HX46_fetch_67
      try dsimp only
      rw [hM1, b210, b18, x3]
      try dsimp only
      rw [exl, b215, e2]
      try dsimp only
      rw [K2]
      exact ⟨x4, fun w => absurd w c, fun _ => ⟨e1, K1, z⟩⟩
theorem fetch_k (R : RelP p h bd a fu cf rg u t hv kp fd m c1 f1 d1 w1 hq s dd x dk q rq r g sg bl cr np kn o fs B Bk Vv K F T rt tb X Y) (hB : Bk < 9223372036854775808) (hi : inR pv 2) (hev : ul pv % 2 = 0) (hlo : ld2 r X pv = lo) (ge : 0 ≤ lg_cmp pv (Int64.ofInt 0)) :
    ∃ j k X', j < 512 ∧ X'.2.2 3 kp j = k ∧ RelP p h bd a fu cf rg u t hv kp fd m c1 f1 d1 w1 hq s dd x dk q rq r g sg bl cr np kn o fs B Bk Vv K F T rt tb X' Y ∧ Kq p k X X' ∧ FkS r k pv lo X' ∧
      ∀ Mc, GX46_half p (Int32.ofInt 0) Mc = (pv, X) → GX46_fetch p Mc = GX46_fetch_127 p pv k X' ∧ (HX46_half p (Int32.ofInt 0) Mc → HX46_fetch_127 p pv k X' → HX46_fetch p Mc) := by
  have RR := relP_ram R
  obtain ⟨j, hj, ej⟩ := kp_ix pv
  have np_ := R.1.1.1
  have n := relP_65 R hj
  have b210 : X.2.2 210 p 0 = bd := R.1.1.2.2.1
  have b18 : X.2.2 18 bd 0 = r := R.2.2.2.2.2.2.2.2.1.1.2.2.1
  have b216 : X.2.2 216 p 0 = kp := R.1.1.2.2.2.2.2.2.2.2.1
  have hcl : (nI j).toNatClampNeg = j := o_cl (by omega)
  have hin : fm_in X kp (nI j) = true := in_nI R.2.2.2.2.2.2.2.1.2.1 hj (by decide)
  have hKE : KcE r Bk (X.2.2 3 kp j) X := R.2.2.2.2.2.2.2.1.2.2.2 j hj
  obtain ⟨oo, ho⟩ : ∃ o, ul pv = 2147483648 + o := ⟨ul pv - 2147483648, by unfold inR at hi; omega⟩
  have hb : oo < 4194304 := by unfold inR at hi; omega
  obtain ⟨pg, p1, p2⟩ := X11_pageOf ho hb X
  have ei : pg.toNatClampNeg = pgi pv := by
    rw [clamp, p2, if_pos (by omega)]
    unfold pgi
    omega
  have epg : pg = nI (oo / 4096) := ui_inj (by rw [p2, ui_nI]; omega)
  have hin2 : fm_in X (X.2.2 204 r 0) pg = true := by
    rw [epg]
    exact in_nI (tL_204 RR.1.1.1 RR.1.2.2.1) (by omega) (by decide)
  by_cases valid : (¬ X.1 180 (X.2.2 3 kp j) 0 = 0 ∧ lg_cmp (X.2.1 181 (X.2.2 3 kp j) 0) pv = 0) ∧ lg_cmp (X.2.1 182 (X.2.2 3 kp j) 0) (cwr X r (pgi pv)) = 0
  · obtain ⟨⟨c1_, c2_⟩, c3_⟩ := valid
    obtain ⟨i1, i2, d, d1_, d2_, d3_⟩ := hKE c1_
    have e181 : X.2.1 181 (X.2.2 3 kp j) 0 = pv := ul_inj (cl_eq.mp c2_)
    rw [e181] at d2_ d3_
    have e182 : X.2.1 182 (X.2.2 3 kp j) 0 = cwr X r (pgi pv) := ul_inj (cl_eq.mp c3_)
    have hd : d = 0 := by
      rw [e182] at d2_
      have := congrArg ul d2_
      rw [ul_add, ul_lN] at this
      have := ul_lt (cwr X r (pgi pv))
      omega
    have V := d3_ hd
    refine ⟨j, _, X, hj, rfl, R, kq_r RR.1.1 RR.1.2.1, ?_, fun Mc hM => ⟨?_, fun h1 h2 => ?_⟩⟩
    · rcases id V with ⟨w1_, w2_, w3_, w4_⟩ | ⟨w1_, w2_, w3_, w4_, w5_⟩
      · rw [hlo] at w1_ w2_ w3_
        exact Or.inl ⟨w1_, w4_, w2_, w3_⟩
      · rw [hlo] at w1_
        exact Or.inr ⟨w1_, w5_, Or.inl ⟨c1_, V⟩⟩
    · unfold GX46_fetch GX46_fetch_0
      try dsimp only
      rw [hM]
      try dsimp only
      rw [fi_pos ge, b216, ej, hcl, fi_neg c1_, fi_pos c2_, b210, b18, p1]
      try dsimp only
      rw [ei, fi_pos c3_]
    · unfold HX46_fetch HX46_fetch_0
      try dsimp only
      rw [hM]
      try dsimp only
      rw [b216, ej, hcl, b210, b18, p1]
      try dsimp only
      rw [ei]
      exact ⟨h1, fun _ => ⟨hin, fun z => absurd z c1_, fun _ => ⟨fun _ => ⟨hin2, fun _ => h2, fun z => absurd c3_ z⟩, fun z => absurd c2_ z⟩⟩, fun z => absurd ge z⟩
  · obtain ⟨X', R', q', g1, g2, S'⟩ := fetch_67 (lo := lo) (pv := pv) R hj rfl hi hev hlo
    refine ⟨j, _, X', hj, relP_row q'.2.1 (by decide) R j, R', q', S', fun Mc hM => ⟨?_, fun h1 h2 => ?_⟩⟩
    · unfold GX46_fetch GX46_fetch_0
      try dsimp only
      rw [hM]
      try dsimp only
      rw [fi_pos ge, b216, ej, hcl, b210, b18, p1]
      try dsimp only
      rw [ei, ← g1]
      by_cases c1_ : X.1 180 (X.2.2 3 kp j) 0 = 0
      · rw [fi_pos c1_]
      · rw [fi_neg c1_]
        by_cases c2_ : lg_cmp (X.2.1 181 (X.2.2 3 kp j) 0) pv = 0
        · rw [fi_pos c2_, fi_neg (fun z => valid ⟨⟨c1_, c2_⟩, z⟩)]
        · rw [fi_neg c2_]
    · unfold HX46_fetch HX46_fetch_0
      try dsimp only
      rw [hM]
      try dsimp only
      rw [b216, ej, hcl, b210, b18, p1]
      try dsimp only
      have h3 := g2 h2
      rw [ei]
      exact ⟨h1, fun _ => ⟨hin, fun _ => h3, fun c1_ => ⟨fun c2_ => ⟨hin2, fun z => absurd ⟨⟨c1_, c2_⟩, z⟩ valid, fun _ => h3⟩, fun _ => h3⟩⟩, fun z => absurd ge z⟩
end F6
