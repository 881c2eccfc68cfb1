/-! fetching: both sides -/
set_option maxRecDepth 100000
section F8
variable {p h bd a fu rg u t hv kp fd m c1 f1 d1 w1 hq s dd x dk q rq r g sg bl cr np : Nat} {cf : Nat → Nat} {kn : Int32} {o : Option Wt} {fs : Fs} {B Bk Vv : Nat} {K : Rg} {F T : Nat → Nat} {rt : Int32} {tb : Int64} {Mc Mt : FM}
theorem nI_ge0 {k : Nat} (hk : k < 65536) : 0 ≤ nI k := by
  show nI 0 ≤ nI k
  exact (n_le (by decide) (by omega)).mpr (Nat.zero_le _)
theorem nI_mm : ¬ (0 : Int32) ≤ Int32.ofInt (-1) := by decide
theorem and_ff {k : Nat} (hk : k < 65536) : (nI k).toInt64 &&& Int64.ofInt 65535 = (nI k).toInt64 := by
  apply ul_inj
  have e : ul (nI k).toInt64 = k := by
    rw [o_64 (by omega), ul_lN]
    omega
  rw [ul_and, e, show ul (Int64.ofInt 65535) = 2 ^ 16 - 1 from rfl, Nat.and_two_pow_sub_one_eq_mod]
  omega
theorem P_fetch (R : RelP p h bd a fu cf rg u t hv kp fd m c1 f1 d1 w1 hq s dd x dk q rq r g sg bl cr np kn o fs B Bk Vv K F T rt tb Mc Mt) (To : Told d1 rt tb Mt) (hB : Bk + 1 < 9223372036854775808) (hV : Vv < 2147483648) :
    HX46_fetch p Mc ∧ HX92_fetch m (nI h) Mt ∧ ∃ Nc Nt, Evo r 2 Mc Nc ∧ WK lX46_fetch Mc Nc ∧ WK lX92_fetch Mt Nt ∧
      ((GX46_fetch p Mc = (Int32.ofInt 1, Nc) ∧ GX92_fetch m (nI h) Mt = (Int32.ofInt 1, Nt) ∧ Got p m Nc Nt ∧ ¬ (Nc.1 221 p 0 = Int32.ofInt 2 ∧ Nc.1 219 p 0 = 0) ∧ RelP p h bd a fu cf rg u t hv kp fd m c1 f1 d1 w1 hq s dd x dk q rq r g sg bl cr np kn o fs B (Bk + 2) Vv K F T rt tb Nc Nt ∧ Told d1 rt tb Nt) ∨
       (GX46_fetch p Mc = (Int32.ofInt 1, Nc) ∧ GX92_fetch m (nI h) Mt = (Int32.ofInt 0, Nt) ∧ Nc.1 221 p 0 = Int32.ofInt 2 ∧ Nc.1 219 p 0 = 0 ∧ Nt.1 320 m 0 = Int32.ofInt 2 ∧ Nt.2.1 321 m 0 = illV (Nc.1 221 p 0) (Nc.1 220 p 0) ∧ RelP p h bd a fu cf rg u t hv kp fd m c1 f1 d1 w1 hq s dd x dk q rq r g sg bl cr np kn o fs B (Bk + 2) Vv K F T rt tb Nc Nt) ∨
       (GX46_fetch p Mc = (Int32.ofInt 0, Nc) ∧ GX92_fetch m (nI h) Mt = (Int32.ofInt 0, Nt) ∧ HX92_step_96 m c1 d1 Nt ∧ RelP p h bd a fu cf rg u t hv kp fd m c1 f1 d1 w1 hq s dd x dk q rq r g sg bl cr np kn none fs B (Bk + 2) Vv K F T rt tb Nc (GX92_step_96 m c1 d1 Nt))) := by
  have RR := relP_ram R
  have T' := RR.2.1.1
  have W' := RR.2.1.2.1
  obtain ⟨y0, y1, y2, y3, ⟨y4, y5⟩, yrest⟩ := R.2.1.1
  have hcl : (nI h).toNatClampNeg = h := o_cl (by omega)
  have n94 : fm_is Mt 94 94 c1 = true := R.2.2.2.1.2.1
  have ev := R.2.1.2.2.2
  have k1 : WK [345] Mt (fm_sI Mt 345 c1 0 (Int32.ofInt 0)) := WK_I W' n94 rfl rfl _
  have T1 : Ty (fm_sI Mt 345 c1 0 (Int32.ofInt 0)) := ⟨T'.1, tyb_sI rfl T'.2⟩
  have R1 := relP_t k1 (by decide) T1 R
  have To1 := told_k k1 (by decide) T' W' R.2.2.2.2.1.2.1.2.1 To
  have ecn : GX98_counter c1 Mt = (Mt.2.1 347 c1 0, fm_sI Mt 345 c1 0 (Int32.ofInt 0)) := rfl
  have hin : fm_in Mt (Mt.2.2 303 m 0) (nI h) = true := in_nI y4 (by omega) (by decide)
  have e347 : (fm_sI Mt 345 c1 0 (Int32.ofInt 0)).2.1 347 c1 0 = Mt.2.1 347 c1 0 := rfl
  have hP := P_half (ad := Mt.2.1 347 c1 0) (off := Int32.ofInt 0) R1 To1 (by omega) hV ev (by rw [e347, show (Int32.ofInt 0).toInt64 = 0 from by decide, Int64.add_zero])
  have n92 : fm_is (fm_sI Mt 345 c1 0 (Int32.ofInt 0)) 92 92 m = true := y0
  generalize hMt1 : fm_sI Mt 345 c1 0 (Int32.ofInt 0) = Mt1 at *
  generalize had : Mt.2.1 347 c1 0 = ad at *
  obtain ⟨H1, H2, Nc, Nt, E, kc, kt, hS⟩ := hP
  have kT : WK lX92_fetch Mt Nt := WK_t (WK_s (by decide) k1) (WK_s (by decide) kt)
  rcases hS with ⟨pv, e1, e2, i2, pg, ng, R2, To2, b, w1_, w2_, w3_⟩ | ⟨e1, e2, hx, R2⟩
  · have ge := ge_ng ng
    have RR2 := relP_ram R2
    have hev : ul pv % 2 = 0 := by
      have : ul ad % 2 = 0 := ev
      omega
    obtain ⟨lo, l1, l2, l3, l4⟩ := ld2_lt RR2.1 i2
    rw [l2] at e2
    obtain ⟨j, k, X, hj, hk, R3, q3, S3, g3⟩ := fetch_k R2 (by omega) i2 hev l2 ge
    obtain ⟨g4, g5⟩ := g3 Mc e1
    have RR3 := relP_ram R3
    have rq3 := kq_ram q3 RR2
    have EX : Evo r 1 Mc X := evo_q' E rq3
    have kX : WK lX46_fetch Mc X := WK_t (WK_s (by decide) kc) (WK_s (by decide) q3.2.1)
    have n92N : fm_is Nt 92 92 m = true := R2.2.1.1.1
    -- the twin's first half is held
    have k5 : WK [319] Nt (fm_sL Nt 319 m 0 (nI lo).toInt64) := WK_L RR2.2.1.2.1 n92N rfl rfl _
    have n92M : fm_is (fm_sL Nt 319 m 0 (nI lo).toInt64) 92 92 m = true := n92N
    have k6 : WK [318] (fm_sL Nt 319 m 0 (nI lo).toInt64) (fm_sI (fm_sL Nt 319 m 0 (nI lo).toInt64) 318 m 0 (Int32.ofInt 2)) := WK_I k5.1.1 n92M rfl rfl _
    have k56 := WK_t (WK_s (S' := [318, 319]) (by decide) k5) (WK_s (by decide) k6)
    have T6 : Ty (fm_sI (fm_sL Nt 319 m 0 (nI lo).toInt64) 318 m 0 (Int32.ofInt 2)) := ⟨RR2.2.1.1.1, tyb_sI rfl RR2.2.1.1.2⟩
    have R6 := relP_t k56 (by decide) T6 R3
    have To6 := told_k k56 (by decide) RR2.2.1.1 RR2.2.1.2.1 R2.2.2.2.2.1.2.1.2.1 To2
    have y318 : (fm_sI (fm_sL Nt 319 m 0 (nI lo).toInt64) 318 m 0 (Int32.ofInt 2)).1 318 m 0 = Int32.ofInt 2 := rIe _
    have y319 : (fm_sI (fm_sL Nt 319 m 0 (nI lo).toInt64) 318 m 0 (Int32.ofInt 2)).2.1 319 m 0 = (nI lo).toInt64 := rLe _
    have c2 : Nt.2.1 347 c1 0 = ad := by
      have := (kf (f := 347) kt rfl (dj_n (L := [347]) (by decide) 347 rfl) (wf_lt (relP_ram R1).2.1.2.1 (fm_ist rfl R1.2.2.2.1.2.1))).2.1
      rw [this]
      exact e347
    have c6 : (fm_sI (fm_sL Nt 319 m 0 (nI lo).toInt64) 318 m 0 (Int32.ofInt 2)).2.1 347 c1 0 = ad := by
      show (fm_sL Nt 319 m 0 (nI lo).toInt64).2.1 347 c1 0 = ad
      rw [rLf2 _ (by decide), c2]
    have kY : WK lX92_fetch Mt (fm_sI (fm_sL Nt 319 m 0 (nI lo).toInt64) 318 m 0 (Int32.ofInt 2)) := WK_t kT (WK_s (by decide) k56)
    have h299 : (fm_sI (fm_sL Nt 319 m 0 (nI lo).toInt64) 318 m 0 (Int32.ofInt 2)).2.2 299 m 0 = hq := R2.2.1.1.2.2.2.1
    have y360 : ∀ f, f ≠ 318 → (fm_sI (fm_sL Nt 319 m 0 (nI lo).toInt64) 318 m 0 (Int32.ofInt 2)).1 f = Nt.1 f := fun f hf => by
      funext a i
      exact rIf2 _ hf
    have UG : ∀ Z, GX92_fetch m (nI h) Mt = Z ↔ (fi (nI lo &&& Int32.ofInt 3 = Int32.ofInt 3)
        (fi (0 ≤ (GX92_half m (nI h) (ad + Int64.ofInt 2) (fm_sI (fm_sL Nt 319 m 0 (nI lo).toInt64) 318 m 0 (Int32.ofInt 2))).1)
          (Int32.ofInt 1, fm_sL (fm_sI (fm_sI (GX92_half m (nI h) (ad + Int64.ofInt 2) (fm_sI (fm_sL Nt 319 m 0 (nI lo).toInt64) 318 m 0 (Int32.ofInt 2))).2 318 m 0 (Int32.ofInt 4)) 317 m 0 (((GX92_half m (nI h) (ad + Int64.ofInt 2) (fm_sI (fm_sL Nt 319 m 0 (nI lo).toInt64) 318 m 0 (Int32.ofInt 2))).1 <<< (Int32.ofInt 16 &&& 31)) ||| nI lo)) 319 m 0 (((fm_sI (fm_sI (GX92_half m (nI h) (ad + Int64.ofInt 2) (fm_sI (fm_sL Nt 319 m 0 (nI lo).toInt64) 318 m 0 (Int32.ofInt 2))).2 318 m 0 (Int32.ofInt 4)) 317 m 0 (((GX92_half m (nI h) (ad + Int64.ofInt 2) (fm_sI (fm_sL Nt 319 m 0 (nI lo).toInt64) 318 m 0 (Int32.ofInt 2))).1 <<< (Int32.ofInt 16 &&& 31)) ||| nI lo)).1 317 m 0).toInt64 &&& Int64.ofInt 4294967295))
          (Int32.ofInt 0, (GX92_half m (nI h) (ad + Int64.ofInt 2) (fm_sI (fm_sL Nt 319 m 0 (nI lo).toInt64) 318 m 0 (Int32.ofInt 2))).2))
        (fi ((fm_sI (GX94_expand hq (nI lo) (fm_sI (fm_sL Nt 319 m 0 (nI lo).toInt64) 318 m 0 (Int32.ofInt 2))).2 317 m 0 (GX94_expand hq (nI lo) (fm_sI (fm_sL Nt 319 m 0 (nI lo).toInt64) 318 m 0 (Int32.ofInt 2))).1).1 317 m 0 = 0)
          (fi ((GX92_illegal m (fm_sI (GX94_expand hq (nI lo) (fm_sI (fm_sL Nt 319 m 0 (nI lo).toInt64) 318 m 0 (Int32.ofInt 2))).2 317 m 0 (GX94_expand hq (nI lo) (fm_sI (fm_sL Nt 319 m 0 (nI lo).toInt64) 318 m 0 (Int32.ofInt 2))).1)).1 = 0)
            (Int32.ofInt 0, (GX92_illegal m (fm_sI (GX94_expand hq (nI lo) (fm_sI (fm_sL Nt 319 m 0 (nI lo).toInt64) 318 m 0 (Int32.ofInt 2))).2 317 m 0 (GX94_expand hq (nI lo) (fm_sI (fm_sL Nt 319 m 0 (nI lo).toInt64) 318 m 0 (Int32.ofInt 2))).1)).2)
            (Int32.ofInt 1, (GX92_illegal m (fm_sI (GX94_expand hq (nI lo) (fm_sI (fm_sL Nt 319 m 0 (nI lo).toInt64) 318 m 0 (Int32.ofInt 2))).2 317 m 0 (GX94_expand hq (nI lo) (fm_sI (fm_sL Nt 319 m 0 (nI lo).toInt64) 318 m 0 (Int32.ofInt 2))).1)).2))
          (Int32.ofInt 1, fm_sI (GX94_expand hq (nI lo) (fm_sI (fm_sL Nt 319 m 0 (nI lo).toInt64) 318 m 0 (Int32.ofInt 2))).2 317 m 0 (GX94_expand hq (nI lo) (fm_sI (fm_sL Nt 319 m 0 (nI lo).toInt64) 318 m 0 (Int32.ofInt 2))).1))) = Z := by
      intro Z
      unfold GX92_fetch GX92_fetch_0 GX92_fetch_77 GX92_fetch_72 GX92_fetch_77
      try dsimp only
      rw [hcl, y5, ecn]
      try dsimp only
      rw [e2]
      try dsimp only
      rw [fi_pos (nI_ge0 l1), h299]
    have UH : ((nI lo &&& Int32.ofInt 3 = Int32.ofInt 3 → HX92_half m (nI h) (ad + Int64.ofInt 2) (fm_sI (fm_sL Nt 319 m 0 (nI lo).toInt64) 318 m 0 (Int32.ofInt 2))) ∧ (¬ nI lo &&& Int32.ofInt 3 = Int32.ofInt 3 → HX94_expand hq (nI lo) (fm_sI (fm_sL Nt 319 m 0 (nI lo).toInt64) 318 m 0 (Int32.ofInt 2)))) → HX92_fetch m (nI h) Mt := by
      intro q
      unfold HX92_fetch HX92_fetch_0
      try dsimp only
      rw [hcl, y5, ecn]
      try dsimp only
      rw [e2]
      try dsimp only
      rw [h299]
      exact ⟨hin, n94, H2, fun _ => ⟨fun c => ⟨q.1 c, trivial⟩, fun c => ⟨q.2 c, trivial⟩⟩, fun _ => trivial⟩
    have n97 : fm_is (fm_sI (fm_sL Nt 319 m 0 (nI lo).toInt64) 318 m 0 (Int32.ofInt 2)) 97 97 hq = true := R6.2.1.2.1
    have hsame : ∀ y, y < 2 ^ 57 → okR y → y % 8 = 0 → ldT cr (fm_sI (fm_sI (fm_sL Nt 319 m 0 (nI lo).toInt64) 318 m 0 (Int32.ofInt 2)) 358 d1 0 (Int32.ofInt 0)) y = ldT cr Nt y := by
      intro y _ ok _
      have RR6 := relP_ram R6
      have k8 : WK [358] (fm_sI (fm_sL Nt 319 m 0 (nI lo).toInt64) 318 m 0 (Int32.ofInt 2)) (fm_sI (fm_sI (fm_sL Nt 319 m 0 (nI lo).toInt64) 318 m 0 (Int32.ofInt 2)) 358 d1 0 (Int32.ofInt 0)) := WK_I RR6.2.1.2.1 R6.2.2.2.2.1.2.1.2.1 rfl rfl _
      have R8 := relP_ram (relP_t k8 (by decide) ⟨T6.1, tyb_sI rfl T6.2⟩ R6)
      rw [← ld_e R8 ok, ← ld_e RR3 ok]
    have e37 : X.1 37 u 0 = Mc.1 37 u 0 := by
      rw [R3.2.2.2.2.1.2.2.2.2.1.1, R1.2.2.2.2.1.2.2.2.2.1.1]
      exact congrFun (kf (f := 360) kt rfl (dj_n (L := [360]) (by decide) 360 rfl) (wf_lt (relP_ram R1).2.1.2.1 (fm_ist rfl R1.2.2.2.2.1.2.1.2.1))).1 0
    generalize hM6 : fm_sI (fm_sL Nt 319 m 0 (nI lo).toInt64) 318 m 0 (Int32.ofInt 2) = M6 at *
    rcases S3 with ⟨s1, s2, s3, s4⟩ | ⟨s1, s2, s3⟩
    · -- an instruction of two bytes
      obtain ⟨x1, x2⟩ := X94_expand T6 n97 l1
      have np3 := R3.1.1.1
      have kk : WK [221] X (fm_sI X 221 p 0 (X.1 184 k 0)) := WK_I RR3.1.2.1 np3 rfl rfl _
      have TK : Ty (fm_sI X 221 p 0 (X.1 184 k 0)) := ⟨RR3.1.1.1, tyb_sI rfl RR3.1.1.2⟩
      have R7 := relP_c kk (by decide) TK R6
      obtain ⟨N, z1, z2, z3, z4, z5, z6⟩ := fetch_265 (k := k) R7
      have z4' : N.1 221 p 0 = Int32.ofInt 2 := by rw [z4, rIe, s2]
      have z2' : N.1 219 p 0 = hW (nI lo) := by rw [z2, rIf2 _ (by decide), s3]
      have z3' : N.1 220 p 0 = nI lo := by rw [z3, rIf2 _ (by decide), s4]
      have n221 : ¬ (fm_sI X 221 p 0 (X.1 184 k 0)).1 221 p 0 = Int32.ofInt 4 := by
        rw [rIe, s2]
        decide
      have G1 : GX46_fetch p Mc = (Int32.ofInt 1, N) := by
        rw [g4]
        unfold GX46_fetch_127
        try dsimp only
        rw [fi_neg n221, z1]
      have Hc : HX46_fetch p Mc := g5 H1 (by
        unfold HX46_fetch_127
        try dsimp only
        exact ⟨fun z => absurd z n221, fun _ => trivial⟩)
      have HT : HX92_fetch m (nI h) Mt := UH ⟨fun z => absurd z s1, fun _ => x1⟩
      -- the twin's side behind expand
      have k7 : WK [386, 387] M6 (fm_sI (fm_sI M6 386 hq 0 (Int32.ofInt 0)) 387 hq 0 (nI lo)) := WK_t (WK_s (by decide) (WK_I (f := 386) k6.1.1 n97 rfl rfl (Int32.ofInt 0))) (WK_s (by decide) (WK_I (f := 387) (WK_I (f := 386) k6.1.1 n97 rfl rfl (Int32.ofInt 0)).1.1 (show fm_is (fm_sI M6 386 hq 0 (Int32.ofInt 0)) 97 97 hq = true from n97) rfl rfl (nI lo)))
      have T7 : Ty (fm_sI (fm_sI M6 386 hq 0 (Int32.ofInt 0)) 387 hq 0 (nI lo)) := ⟨T6.1, tyb_sI rfl (tyb_sI rfl T6.2)⟩
      have a318 : (fm_sI (fm_sI M6 386 hq 0 (Int32.ofInt 0)) 387 hq 0 (nI lo)).1 318 m 0 = Int32.ofInt 2 := by rw [rIf2 _ (by decide), rIf2 _ (by decide), y318]
      have a319 : (fm_sI (fm_sI M6 386 hq 0 (Int32.ofInt 0)) 387 hq 0 (nI lo)).2.1 319 m 0 = (nI lo).toInt64 := y319
      have n92x : fm_is (fm_sI (fm_sI M6 386 hq 0 (Int32.ofInt 0)) 387 hq 0 (nI lo)) 92 92 m = true := by
        rw [← hM6]
        exact n92N
      generalize hM7 : fm_sI (fm_sI M6 386 hq 0 (Int32.ofInt 0)) 387 hq 0 (nI lo) = M7 at *
      have k8 : WK [317] M7 (fm_sI M7 317 m 0 (hW (nI lo))) := WK_I k7.1.1 n92x rfl rfl _
      have T8 : Ty (fm_sI M7 317 m 0 (hW (nI lo))) := ⟨T7.1, tyb_sI rfl T7.2⟩
      have k78 : WK [317, 386, 387] M6 (fm_sI M7 317 m 0 (hW (nI lo))) := WK_t (WK_s (by decide) k7) (WK_s (by decide) k8)
      have R9 := relP_t k78 (by decide) T8 z5
      have To9 := told_k k78 (by decide) T6 k6.1.1 R6.2.2.2.2.1.2.1.2.1 To6
      have b317 : (fm_sI M7 317 m 0 (hW (nI lo))).1 317 m 0 = hW (nI lo) := rIe _
      have b318 : (fm_sI M7 317 m 0 (hW (nI lo))).1 318 m 0 = Int32.ofInt 2 := by rw [rIf2 _ (by decide), a318]
      have b319 : (fm_sI M7 317 m 0 (hW (nI lo))).2.1 319 m 0 = (nI lo).toInt64 := a319
      have n92y : fm_is (fm_sI M7 317 m 0 (hW (nI lo))) 92 92 m = true := n92x
      have vIl : illV (N.1 221 p 0) (N.1 220 p 0) = (nI lo).toInt64 := by
        rw [z4', z3']
        unfold illV
        rw [fi_pos rfl, and_ff l1]
      have EN : Evo r 2 Mc N := by
        have RR7 := relP_ram R7
        exact evo_w (evo_q' (evo_q' EX (wrR kk (WK_r (S := []) RR3.2.1.2.1) (by decide) (by decide) TK RR3.2.1.1 RR3).2.1) (wrR z6 (WK_r (S := []) RR7.2.1.2.1) (by decide) (by decide) (relP_ram z5).1.1 RR7.2.1.1 RR7).2.1) (by decide)
      have kN : WK lX46_fetch Mc N := WK_t kX (WK_t (WK_s (by decide) kk) (WK_s (by decide) z6))
      by_cases cz : hW (nI lo) = 0
      · -- no instruction
        have k9 : WK [320] (fm_sI M7 317 m 0 (hW (nI lo))) (fm_sI (fm_sI M7 317 m 0 (hW (nI lo))) 320 m 0 (Int32.ofInt 2)) := WK_I k8.1.1 n92y rfl rfl _
        have ka_ : WK [321] (fm_sI (fm_sI M7 317 m 0 (hW (nI lo))) 320 m 0 (Int32.ofInt 2)) (fm_sL (fm_sI (fm_sI M7 317 m 0 (hW (nI lo))) 320 m 0 (Int32.ofInt 2)) 321 m 0 (nI lo).toInt64) := WK_L k9.1.1 (show fm_is (fm_sI (fm_sI M7 317 m 0 (hW (nI lo))) 320 m 0 (Int32.ofInt 2)) 92 92 m = true from n92y) rfl rfl _
        have k9a := WK_t (WK_s (S' := [320, 321]) (by decide) k9) (WK_s (by decide) ka_)
        have Ra := relP_t k9a (by decide) ⟨T8.1, tyb_sI rfl T8.2⟩ R9
        refine ⟨Hc, HT, N, _, EN, kN, WK_t kY (WK_t (WK_s (by decide) k78) (WK_s (by decide) k9a)), Or.inr (Or.inl ⟨G1, (UG _).mpr ?_, z4', z2'.trans cz, ?_, ?_, relP_up (by omega) (by omega) Ra⟩)⟩
        · rw [fi_neg s1, x2]
          try dsimp only
          rw [fi_pos (by rw [b317]; exact cz)]
          unfold GX92_illegal GX92_illegal_0 GX92_fail GX92_fail_0
          try dsimp only
          rw [b319, fi_pos (show Int32.ofInt 0 = 0 from rfl)]
        · show (fm_sI (fm_sI M7 317 m 0 (hW (nI lo))) 320 m 0 (Int32.ofInt 2)).1 320 m 0 = _
          exact rIe _
        · rw [rLe, vIl]
      · refine ⟨Hc, HT, N, _, EN, kN, WK_t kY (WK_s (by decide) k78), Or.inl ⟨G1, (UG _).mpr ?_, ⟨z2'.trans b317.symm, z4'.trans b318.symm, Or.inl b318, b319.trans vIl.symm⟩, fun z => cz (z2'.symm.trans z.2), relP_up (by omega) (by omega) R9, To9⟩⟩
        rw [fi_neg s1, x2]
        try dsimp only
        rw [fi_neg (by rw [b317]; exact cz)]
    · -- four bytes
      have lo' : ld2 r X pv = nI lo := by rw [ld2_q RR2.1 rq3 i2 hev, l2]
      obtain ⟨hc4, ht4, Nc4, Nt4, E4, kc4, kt4, out⟩ := fetch_4 R6 To6 hB hV hj hk s2 i2 hev lo' s1 c6 ev pg (fun hp => by
        have hu : ul (ad + Int64.ofInt 2) = ul ad + 2 := by
          have := ul_lt ad
          rw [ul_add, show ul (Int64.ofInt 2) = 2 from rfl]
          omega
        obtain ⟨a1, a2⟩ := wfd_again (ld' := ldT cr (fm_sI M6 358 d1 0 (Int32.ofInt 0))) (a' := ad + Int64.ofInt 2) w1_ (by rw [hu]; omega) (fun y y1 y2 y3 => by rw [hsame y y1 y2 y3, w3_ y y1 y2 y3])
        rw [e37]
        exact ⟨b, a1, a2, w2_⟩) s3
      have Hc := g5 H1 hc4
      have HT : HX92_fetch m (nI h) Mt := UH ⟨fun _ => ht4, fun z => absurd s1 z⟩
      have EN : Evo r 2 Mc Nc4 := evo_t EX E4
      have kN : WK lX46_fetch Mc Nc4 := WK_t kX kc4
      rcases out with ⟨sec, o1, o2, o3, o4, o5, o6, o7, o8⟩ | ⟨o1, o2, o3, o4⟩
      · have RR7 := relP_ram o7
        have n92z : fm_is Nt4 92 92 m = true := o7.2.1.1.1
        have k8 : WK [318] Nt4 (fm_sI Nt4 318 m 0 (Int32.ofInt 4)) := WK_I RR7.2.1.2.1 n92z rfl rfl _
        have k9 : WK [317] (fm_sI Nt4 318 m 0 (Int32.ofInt 4)) (fm_sI (fm_sI Nt4 318 m 0 (Int32.ofInt 4)) 317 m 0 ((nI sec <<< (Int32.ofInt 16 &&& 31)) ||| nI lo)) := WK_I k8.1.1 (show fm_is (fm_sI Nt4 318 m 0 (Int32.ofInt 4)) 92 92 m = true from n92z) rfl rfl _
        have ka_ : WK [319] (fm_sI (fm_sI Nt4 318 m 0 (Int32.ofInt 4)) 317 m 0 ((nI sec <<< (Int32.ofInt 16 &&& 31)) ||| nI lo)) (fm_sL (fm_sI (fm_sI Nt4 318 m 0 (Int32.ofInt 4)) 317 m 0 ((nI sec <<< (Int32.ofInt 16 &&& 31)) ||| nI lo)) 319 m 0 (((nI sec <<< (Int32.ofInt 16 &&& 31)) ||| nI lo).toInt64 &&& Int64.ofInt 4294967295)) := WK_L k9.1.1 (show fm_is (fm_sI (fm_sI Nt4 318 m 0 (Int32.ofInt 4)) 317 m 0 ((nI sec <<< (Int32.ofInt 16 &&& 31)) ||| nI lo)) 92 92 m = true from n92z) rfl rfl _
        have k89 := WK_t (WK_s (S' := [317, 318, 319]) (by decide) k8) (WK_t (WK_s (by decide) k9) (WK_s (by decide) ka_))
        have Ra := relP_t k89 (by decide) ⟨RR7.2.1.1.1, tyb_sI (f := 317) rfl (tyb_sI (f := 318) rfl RR7.2.1.1.2)⟩ o7
        have Toa := told_k k89 (by decide) RR7.2.1.1 RR7.2.1.2.1 o7.2.2.2.2.1.2.1.2.1 o8
        have b317 : (fm_sL (fm_sI (fm_sI Nt4 318 m 0 (Int32.ofInt 4)) 317 m 0 ((nI sec <<< (Int32.ofInt 16 &&& 31)) ||| nI lo)) 319 m 0 (((nI sec <<< (Int32.ofInt 16 &&& 31)) ||| nI lo).toInt64 &&& Int64.ofInt 4294967295)).1 317 m 0 = (nI sec <<< (Int32.ofInt 16 &&& 31)) ||| nI lo := rIe _
        have b318 : (fm_sL (fm_sI (fm_sI Nt4 318 m 0 (Int32.ofInt 4)) 317 m 0 ((nI sec <<< (Int32.ofInt 16 &&& 31)) ||| nI lo)) 319 m 0 (((nI sec <<< (Int32.ofInt 16 &&& 31)) ||| nI lo).toInt64 &&& Int64.ofInt 4294967295)).1 318 m 0 = Int32.ofInt 4 := by
          show (fm_sI (fm_sI Nt4 318 m 0 (Int32.ofInt 4)) 317 m 0 ((nI sec <<< (Int32.ofInt 16 &&& 31)) ||| nI lo)).1 318 m 0 = _
          rw [rIf2 _ (by decide), rIe]
        refine ⟨Hc, HT, Nc4, _, EN, kN, WK_t kY (WK_t (WK_s (by decide) kt4) (WK_s (by decide) k89)), Or.inl ⟨g4.trans o3, (UG _).mpr ?_, ⟨o4.trans b317.symm, o6.trans b318.symm, Or.inr b318, ?_⟩, fun z => absurd (o6.symm.trans z.1) (by decide), Ra, Toa⟩⟩
        · rw [fi_pos s1, o2]
          try dsimp only
          rw [fi_pos (nI_ge0 o1), rIe]
        · rw [rLe, o6, o5, o4]
          unfold illV
          rw [fi_neg (by decide)]
      · refine ⟨Hc, HT, Nc4, Nt4, EN, kN, WK_t kY (WK_s (by decide) kt4), Or.inr (Or.inr ⟨g4.trans o1, (UG _).mpr ?_, o3, o4⟩)⟩
        rw [fi_pos s1, o2]
        try dsimp only
        rw [fi_neg nI_mm]
  · -- no first half
    have ng : ¬ 0 ≤ lg_cmp (Int64.ofInt (-1)) (Int64.ofInt 0) := by decide
    refine ⟨?_, ?_, Nc, Nt, evo_w E (by decide), WK_s (by decide) kc, kT, Or.inr (Or.inr ⟨?_, ?_, hx, relP_up (by omega) (by omega) R2⟩)⟩
    · unfold HX46_fetch HX46_fetch_0
      try dsimp only
      rw [e1]
      exact ⟨H1, fun z => absurd z ng, fun _ => trivial⟩
    · unfold HX92_fetch HX92_fetch_0
      try dsimp only
      rw [hcl, y5, ecn]
      try dsimp only
      rw [e2]
      exact ⟨hin, n94, H2, fun z => absurd z nI_mm, fun _ => trivial⟩
    · unfold GX46_fetch GX46_fetch_0
      try dsimp only
      rw [e1]
      try dsimp only
      rw [fi_neg ng]
    · unfold GX92_fetch GX92_fetch_0
      try dsimp only
      rw [hcl, y5, ecn]
      try dsimp only
      rw [e2]
      try dsimp only
      rw [fi_neg nI_mm]
end F8
