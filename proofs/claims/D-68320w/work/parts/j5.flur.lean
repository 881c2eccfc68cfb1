/-! floats: the twin runs; both sides related -/
set_option maxRecDepth 100000
section Uc
variable {M N K : FM} {f t d r fl i j a b md k : Nat} {s : Fs} {x v : Int64} {w : Int32} {X Y : UU} {sg : Bool}
theorem fRun_e (ht : pt w 25 2 ≤ 1) (h83 : pt w 0 7 = 83) : fRun w v s = if pt w 27 5 < 4 ∨ pt w 27 5 = 11 ∨ pt w 27 5 = 8 ∨ pt w 27 5 = 24 ∨ pt w 27 5 = 26 then (if mdO s.2.2.1 (pt w 12 3) < 5 then fAr (pt w 25 2) (pt w 27 5) (pt w 20 5) (mdO s.2.2.1 (pt w 12 3)) v s (pt w 15 5) else none) else fPl (pt w 25 2) (pt w 27 5) (pt w 20 5) (pt w 12 3) v s (pt w 15 5) := by
  unfold fRun fAr fPl
  rw [if_neg (show ¬ 1 < pt w 25 2 by omega), if_neg (show ¬ (pt w 0 7 = 67 ∨ pt w 0 7 = 71 ∨ pt w 0 7 = 75 ∨ pt w 0 7 = 79) by omega), if_pos h83]
  generalize pt w 27 5 = k
  by_cases q : k < 4 ∨ k = 11 ∨ k = 8 ∨ k = 24 ∨ k = 26
  · rw [if_pos q, if_neg (show ¬ k = 4 by omega), if_neg (show ¬ k = 5 by omega), if_neg (show ¬ k = 20 by omega), if_neg (show ¬ k = 28 by omega), if_neg (show ¬ k = 30 by omega)]
  · rw [if_neg q]
    by_cases k4 : k = 4
    · rw [if_pos k4, if_pos k4]
    · rw [if_neg k4, if_neg k4]
      by_cases k5 : k = 5
      · rw [if_pos k5, if_pos k5]
      · rw [if_neg k5, if_neg k5]
        by_cases k20 : k = 20
        · rw [if_pos k20, if_pos k20]
        · rw [if_neg k20, if_neg k20]
          by_cases k28 : k = 28
          · rw [if_pos k28, if_pos k28]
          · rw [if_neg k28, if_neg k28]
            by_cases k30 : k = 30
            · rw [if_pos k30, if_pos k30]
            · rw [if_neg k30, if_neg k30, if_neg (show ¬ k < 4 by omega), if_neg (show ¬ k = 11 by omega), if_neg (show ¬ k = 8 by omega), if_neg (show ¬ k = 24 by omega), if_neg (show ¬ k = 26 by omega)]
              split <;> rfl
theorem frT_366 (T : Ty M) (v : Int32) : FrTF f M (fm_sI M 366 f 0 v) := ⟨⟨T.1, tyb_sI (by rfl) T.2⟩, rfl, fun g c i _ q => oI (fun z => q ⟨z.2.1, Or.inl z.1⟩), fun _ _ _ _ _ _ => rfl⟩
theorem vFt_366 {v : Int32} (h : VFt f M s) : VFt f (fm_sI M 366 f 0 v) s := ⟨h.1, (oI (fun z => by omega)).trans h.2.1, (oI (fun z => by omega)).trans h.2.2.1, (oI (fun z => by omega)).trans h.2.2.2.1, h.2.2.2.2⟩
theorem X99_run122 (o : FlO f M) (q : VFt f M s) (ht : t ≤ 1) (hm : md < 8) (hk : k < 32) (hd : d < 32) (ha : a < 32) (hb : b < 32) {c : Nat} (hc : c = 67 ∨ c = 71 ∨ c = 75 ∨ c = 79) :
    PoT f t d s (if md < 5 then some ((fusR t md (rdU t a s) (rdU t b s) (rdU t k s) (decide (71 < c)) (decide (c = 71 ∨ c = 79))).2, .inl (lN (fusR t md (rdU t a s) (rdU t b s) (rdU t k s) (decide (71 < c)) (decide (c = 71 ∨ c = 79))).1)) else none)
      (HX99_run_122 f (nI c) (nI t) (nI k) (nI d) (nI a) (nI b) (nI md) M) (GX99_run_122 f (nI c) (nI t) (nI k) (nI d) (nI a) (nI b) (nI md) M) M := by
  have m4 : (nI md ≤ Int32.ofInt 4) = (md < 5) := propext (by
    have := ni_le (z := 4) (k := md) (by omega)
    rw [this]
    omega)
  have c71 : (nI c ≤ Int32.ofInt 71) = ¬ 71 < c := propext (by
    have := ni_le (z := 71) (k := c) (by omega)
    rw [this]
    omega)
  have e71 : (nI c = Int32.ofInt 71) = (c = 71) := propext (ni_i (b := 71) (by omega) (by decide))
  have e79 : (nI c = Int32.ofInt 79) = (c = 79) := propext (ni_i (b := 79) (by omega) (by decide))
  unfold HX99_run_122 GX99_run_122
  dsimp only
  rw [m4]
  by_cases y : md < 5
  · rw [fi_pos y, if_pos y]
    obtain ⟨h1, M1, g1, r1, o1, v1, s1, -⟩ := read0 (i := 0) o q ht ha (by decide)
    rw [show Int32.ofInt 0 = nI 0 from rfl, g1]
    obtain ⟨h2, M2, g2, r2, o2, v2, s2, k2⟩ := read0 (i := 1) o1 v1 ht hb (by decide)
    rw [show Int32.ofInt 1 = nI 1 from rfl, g2]
    obtain ⟨h3, M3, g3, r3, o3, v3, s3, k3⟩ := read0 (i := 2) o2 v2 ht hk (by decide)
    rw [show Int32.ofInt 2 = nI 2 from rfl, g3]
    have x3 := k3 0 _ (by decide) (k2 0 _ (by decide) s1)
    have y3 := k3 1 _ (by decide) s2
    have fr : FrTF f M M3 := frT_f (frF_t r1.1 (frF_t r2.1 r3.1))
    rw [c71]
    have K192 : ∀ a' b' : Bool, a' = decide (71 < c) → b' = decide (c = 71 ∨ c = 79) → PoT f t d s (some ((fusR t md (rdU t a s) (rdU t b s) (rdU t k s) (decide (71 < c)) (decide (c = 71 ∨ c = 79))).2, .inl (lN (fusR t md (rdU t a s) (rdU t b s) (rdU t k s) (decide (71 < c)) (decide (c = 71 ∨ c = 79))).1)))
        (HX99_run_192 (nI t) (nI md) f (nI d) f (bz (a' = true)) (bz (b' = true)) M3) (GX99_run_192 (nI t) (nI md) f (nI d) f (bz (a' = true)) (bz (b' = true)) M3) M3 := fun a' b' ha' hb' => by
      have r := X99_fused (t := t) (md := md) o3 ht (show md ≤ 4 by omega) x3 y3 s3 (rdU_g ht a s) (rdU_g ht b s) (rdU_g ht k s) a' b'
      rw [ha', hb'] at r ⊢
      exact aw o3 v3 ht hd r
    have K173 : ∀ a' : Bool, a' = decide (71 < c) → PoT f t d s (some ((fusR t md (rdU t a s) (rdU t b s) (rdU t k s) (decide (71 < c)) (decide (c = 71 ∨ c = 79))).2, .inl (lN (fusR t md (rdU t a s) (rdU t b s) (rdU t k s) (decide (71 < c)) (decide (c = 71 ∨ c = 79))).1)))
        (HX99_run_173 (nI c) (nI t) (nI md) f (nI d) f (bz (a' = true)) M3) (GX99_run_173 (nI c) (nI t) (nI md) f (nI d) f (bz (a' = true)) M3) M3 := fun a' ha' => by
      have o1 := K192 a' true ha'
      have o0 := K192 a' false ha'
      rw [bz_t (show true = true from rfl)] at o1
      rw [bz_f (show ¬ false = true by decide)] at o0
      unfold HX99_run_173 GX99_run_173 HX99_run_187 GX99_run_187
      rw [e71, e79]
      by_cases z1 : c = 71
      · rw [fi_pos z1]
        exact po_th (o1 (decide_eq_true (Or.inl z1)).symm) (fun h => ⟨fun _ => h, fun z => absurd z1 z⟩) rfl
      · rw [fi_neg z1]
        by_cases z2 : c = 79
        · rw [fi_pos z2]
          exact po_th (o1 (decide_eq_true (Or.inr z2)).symm) (fun h => ⟨fun z => absurd z z1, fun _ => ⟨fun _ => h, fun z => absurd z2 z⟩⟩) rfl
        · rw [fi_neg z2]
          exact po_th (o0 (decide_eq_false (fun z => z.elim z1 z2)).symm) (fun h => ⟨fun z => absurd z z1, fun _ => ⟨fun z => absurd z z2, fun _ => h⟩⟩) rfl
    have p1 := K173 true
    have p0 := K173 false
    rw [bz_t (show true = true from rfl)] at p1
    rw [bz_f (show ¬ false = true by decide)] at p0
    refine po_tf fr ?_
    by_cases z : 71 < c
    · rw [fi_neg (fun y => y z)]
      exact po_th (p1 (decide_eq_true z).symm) (fun h => ⟨fun _ => ⟨h1, h2, h3, fun y => absurd z y, fun _ => h⟩, fun z => absurd y z⟩) rfl
    · rw [fi_pos z]
      exact po_th (p0 (decide_eq_false z).symm) (fun h => ⟨fun _ => ⟨h1, h2, h3, fun _ => h, fun y => absurd z y⟩, fun z => absurd y z⟩) rfl
  · rw [fi_neg y, if_neg y]
    exact po_tn ⟨⟨fun z => absurd z y, fun _ => trivial⟩, rfl⟩ q o.1
theorem X99_run (o : FlO f M) (q : VFt f M s) (hm : s.2.2.1 < 8) : PoT f (pt w 25 2) (pt w 7 5) s (fRun w v s) (HX99_run f w v M) (GX99_run f w v M) M := by
  have f0 := frT_366 (f := f) o.1 (Int32.ofInt 0)
  have o1 := flO_T o f0
  have v1 : VFt f (fm_sI M 366 f 0 (Int32.ofInt 0)) s := vFt_366 q
  refine po_tf f0 ?_
  have hc : pt w 0 7 < 128 := pt_lt w 0 7
  have h4 : pt w 25 2 < 4 := pt_lt w 25 2
  have hk : pt w 27 5 < 32 := pt_lt w 27 5
  have hd : pt w 7 5 < 32 := pt_lt w 7 5
  have ha : pt w 15 5 < 32 := pt_lt w 15 5
  have hb : pt w 20 5 < 32 := pt_lt w 20 5
  have hr : pt w 12 3 < 8 := pt_lt w 12 3
  have c7 : (nI (pt w 12 3) = Int32.ofInt 7) = (pt w 12 3 = 7) := propext (ni_i (b := 7) (by omega) (by decide))
  unfold HX99_run HX99_run_0 GX99_run GX99_run_0
  dsimp only
  generalize hM1 : fm_sI M 366 f 0 (Int32.ofInt 0) = M1 at *
  rw [d0]
  dsimp only
  rw [d12]
  dsimp only
  rw [d25]
  dsimp only
  rw [d27]
  dsimp only
  rw [d7]
  dsimp only
  rw [d15]
  dsimp only
  rw [d20]
  dsimp only
  rw [v1.2.2.1, c7]
  have K84 : ∀ md, md = mdO s.2.2.1 (pt w 12 3) → md < 8 → PoT f (pt w 25 2) (pt w 7 5) s (fRun w v s) (HX99_run_84 f v (nI (pt w 0 7)) (nI (pt w 12 3)) (nI (pt w 25 2)) (nI (pt w 27 5)) (nI (pt w 7 5)) (nI (pt w 15 5)) (nI (pt w 20 5)) (nI md) M1)
      (GX99_run_84 f v (nI (pt w 0 7)) (nI (pt w 12 3)) (nI (pt w 25 2)) (nI (pt w 27 5)) (nI (pt w 7 5)) (nI (pt w 15 5)) (nI (pt w 20 5)) (nI md) M1) M1 := fun md hmd h8 => by
    have le1 : (nI (pt w 25 2) ≤ Int32.ofInt 1) = (pt w 25 2 ≤ 1) := propext (by
      have := ni_le (z := 1) (k := pt w 25 2) (by omega)
      rw [this]
      omega)
    have ec : ∀ l : Nat, l < 128 → (nI (pt w 0 7) = Int32.ofInt (l : Int)) = (pt w 0 7 = l) := fun l hl => propext (by
      have := ni_i (a := pt w 0 7) (b := l) (by omega) (by omega)
      rw [iz_nI l] at this
      exact this)
    have ek : ∀ l : Nat, l < 32 → (nI (pt w 27 5) = Int32.ofInt (l : Int)) = (pt w 27 5 = l) := fun l hl => propext (by
      have := ni_i (a := pt w 27 5) (b := l) (by omega) (by omega)
      rw [iz_nI l] at this
      exact this)
    have k4 : (nI (pt w 27 5) < Int32.ofInt 4) = (pt w 27 5 < 4) := propext (by
      have := ni_lt (z := 4) (k := pt w 27 5) (by omega)
      rw [this]
      omega)
    have m4 : (nI md ≤ Int32.ofInt 4) = (md < 5) := propext (by
      have := ni_le (z := 4) (k := md) (by omega)
      rw [this]
      omega)
    unfold HX99_run_84 GX99_run_84
    rw [le1, show (nI (pt w 0 7) = Int32.ofInt 67) = (pt w 0 7 = 67) from ec 67 (by decide), show (nI (pt w 0 7) = Int32.ofInt 71) = (pt w 0 7 = 71) from ec 71 (by decide), show (nI (pt w 0 7) = Int32.ofInt 75) = (pt w 0 7 = 75) from ec 75 (by decide),
      show (nI (pt w 0 7) = Int32.ofInt 79) = (pt w 0 7 = 79) from ec 79 (by decide), show (nI (pt w 0 7) = Int32.ofInt 83) = (pt w 0 7 = 83) from ec 83 (by decide)]
    dsimp only
    rw [k4, show (nI (pt w 27 5) = Int32.ofInt 11) = (pt w 27 5 = 11) from ek 11 (by decide), show (nI (pt w 27 5) = Int32.ofInt 8) = (pt w 27 5 = 8) from ek 8 (by decide), show (nI (pt w 27 5) = Int32.ofInt 24) = (pt w 27 5 = 24) from ek 24 (by decide), show (nI (pt w 27 5) = Int32.ofInt 26) = (pt w 27 5 = 26) from ek 26 (by decide)]
    by_cases qt : pt w 25 2 ≤ 1
    · rw [fi_pos qt]
      by_cases q67 : pt w 0 7 = 67 ∨ pt w 0 7 = 71 ∨ pt w 0 7 = 75 ∨ pt w 0 7 = 79
      · have R := X99_run122 (d := pt w 7 5) (k := pt w 27 5) (a := pt w 15 5) (b := pt w 20 5) (md := md) o1 v1 qt h8 hk hd ha hb q67
        have eR : fRun w v s = (if md < 5 then some ((fusR (pt w 25 2) md (rdU (pt w 25 2) (pt w 15 5) s) (rdU (pt w 25 2) (pt w 20 5) s) (rdU (pt w 25 2) (pt w 27 5) s) (decide (71 < pt w 0 7)) (decide (pt w 0 7 = 71 ∨ pt w 0 7 = 79))).2, .inl (lN (fusR (pt w 25 2) md (rdU (pt w 25 2) (pt w 15 5) s) (rdU (pt w 25 2) (pt w 20 5) s) (rdU (pt w 25 2) (pt w 27 5) s) (decide (71 < pt w 0 7)) (decide (pt w 0 7 = 71 ∨ pt w 0 7 = 79))).1)) else none) := by
          rw [hmd]
          unfold fRun
          rw [if_neg (show ¬ 1 < pt w 25 2 by omega), if_pos q67]
        rw [eR]
        by_cases z1 : pt w 0 7 = 67
        · rw [fi_pos z1]
          exact po_th R (fun h => ⟨fun _ => ⟨fun _ => h, fun z => absurd z1 z⟩, fun z => absurd qt z⟩) rfl
        · rw [fi_neg z1]
          by_cases z2 : pt w 0 7 = 71
          · rw [fi_pos z2]
            exact po_th R (fun h => ⟨fun _ => ⟨fun z => absurd z z1, fun _ => ⟨fun _ => h, fun z => absurd z2 z⟩⟩, fun z => absurd qt z⟩) rfl
          · rw [fi_neg z2]
            by_cases z3 : pt w 0 7 = 75
            · rw [fi_pos z3]
              exact po_th R (fun h => ⟨fun _ => ⟨fun z => absurd z z1, fun _ => ⟨fun z => absurd z z2, fun _ => ⟨fun _ => h, fun z => absurd z3 z⟩⟩⟩, fun z => absurd qt z⟩) rfl
            · have z4 : pt w 0 7 = 79 := by omega
              rw [fi_neg z3, fi_pos z4]
              exact po_th R (fun h => ⟨fun _ => ⟨fun z => absurd z z1, fun _ => ⟨fun z => absurd z z2, fun _ => ⟨fun z => absurd z z3, fun _ => ⟨fun _ => h, fun z => absurd z4 z⟩⟩⟩⟩, fun z => absurd qt z⟩) rfl
      · have z1 : ¬ pt w 0 7 = 67 := fun z => q67 (Or.inl z)
        have z2 : ¬ pt w 0 7 = 71 := fun z => q67 (Or.inr (Or.inl z))
        have z3 : ¬ pt w 0 7 = 75 := fun z => q67 (Or.inr (Or.inr (Or.inl z)))
        have z4 : ¬ pt w 0 7 = 79 := fun z => q67 (Or.inr (Or.inr (Or.inr z)))
        rw [fi_neg z1, fi_neg z2, fi_neg z3, fi_neg z4]
        by_cases z5 : pt w 0 7 = 83
        · rw [fi_pos z5, fRun_e qt z5, ← hmd]
          obtain ⟨h1, M2, g1, r1, o2, v2, s1, -⟩ := read0 (i := 0) o1 v1 qt ha (by decide)
          rw [show Int32.ofInt 0 = nI 0 from rfl, g1]
          obtain ⟨h2, M3, g2, r2, o3, v3, s2, k2⟩ := read0 (i := 1) o2 v2 qt hb (by decide)
          rw [show Int32.ofInt 1 = nI 1 from rfl, g2]
          have x3 := k2 0 _ (by decide) s1
          refine po_tf (frT_f (frF_t r1.1 r2.1)) ?_
          have K266 : (pt w 27 5 < 4 ∨ pt w 27 5 = 11 ∨ pt w 27 5 = 8 ∨ pt w 27 5 = 24 ∨ pt w 27 5 = 26) → PoT f (pt w 25 2) (pt w 7 5) s (if md < 5 then fAr (pt w 25 2) (pt w 27 5) (pt w 20 5) md v s (pt w 15 5) else none)
              (HX99_run_266 f v (nI (pt w 25 2)) (nI (pt w 27 5)) (nI (pt w 7 5)) (nI (pt w 15 5)) (nI (pt w 20 5)) (nI md) M3) (GX99_run_266 f v (nI (pt w 25 2)) (nI (pt w 27 5)) (nI (pt w 7 5)) (nI (pt w 15 5)) (nI (pt w 20 5)) (nI md) M3) M3 := fun hK => by
            unfold HX99_run_266 GX99_run_266 GX99_run_293
            dsimp only
            rw [m4]
            by_cases y : md < 5
            · rw [fi_pos y, if_pos y]
              exact po_th (X99_arith (md := md) (v := v) o3 v3 qt (by omega) hk hd ha hb hK x3 s2) (fun h => ⟨fun _ => ⟨h, trivial⟩, fun z => absurd y z⟩) rfl
            · rw [fi_neg y, if_neg y]
              exact po_tn ⟨⟨fun z => absurd z y, fun _ => trivial⟩, rfl⟩ v3 o3.1
          have tail : ∀ (o' : Fo) (H : Prop) (G : Int32 × FM), PoT f (pt w 25 2) (pt w 7 5) s o' H G M3 → PoT f (pt w 25 2) (pt w 7 5) s o' H G M3 := fun _ _ _ h => h
          by_cases a1 : pt w 27 5 < 4
          · rw [fi_pos a1, if_pos (Or.inl a1)]
            exact po_th (K266 (Or.inl a1)) (fun h => ⟨fun _ => ⟨fun z => absurd z z1, fun _ => ⟨fun z => absurd z z2, fun _ => ⟨fun z => absurd z z3, fun _ => ⟨fun z => absurd z z4, fun _ => ⟨fun _ => ⟨h1, h2, fun _ => h, fun z => absurd a1 z⟩, fun z => absurd z5 z⟩⟩⟩⟩⟩, fun z => absurd qt z⟩) rfl
          · rw [fi_neg a1]
            by_cases a2 : pt w 27 5 = 11
            · rw [fi_pos a2, if_pos (Or.inr (Or.inl a2))]
              exact po_th (K266 (Or.inr (Or.inl a2))) (fun h => ⟨fun _ => ⟨fun z => absurd z z1, fun _ => ⟨fun z => absurd z z2, fun _ => ⟨fun z => absurd z z3, fun _ => ⟨fun z => absurd z z4, fun _ => ⟨fun _ => ⟨h1, h2, fun z => absurd z a1, fun _ => ⟨fun _ => h, fun z => absurd a2 z⟩⟩, fun z => absurd z5 z⟩⟩⟩⟩⟩, fun z => absurd qt z⟩) rfl
            · rw [fi_neg a2]
              by_cases a3 : pt w 27 5 = 8
              · rw [fi_pos a3, if_pos (Or.inr (Or.inr (Or.inl a3)))]
                exact po_th (K266 (Or.inr (Or.inr (Or.inl a3)))) (fun h => ⟨fun _ => ⟨fun z => absurd z z1, fun _ => ⟨fun z => absurd z z2, fun _ => ⟨fun z => absurd z z3, fun _ => ⟨fun z => absurd z z4, fun _ => ⟨fun _ => ⟨h1, h2, fun z => absurd z a1, fun _ => ⟨fun z => absurd z a2, fun _ => ⟨fun _ => h, fun z => absurd a3 z⟩⟩⟩, fun z => absurd z5 z⟩⟩⟩⟩⟩, fun z => absurd qt z⟩) rfl
              · rw [fi_neg a3]
                by_cases a4 : pt w 27 5 = 24
                · rw [fi_pos a4, if_pos (Or.inr (Or.inr (Or.inr (Or.inl a4))))]
                  exact po_th (K266 (Or.inr (Or.inr (Or.inr (Or.inl a4))))) (fun h => ⟨fun _ => ⟨fun z => absurd z z1, fun _ => ⟨fun z => absurd z z2, fun _ => ⟨fun z => absurd z z3, fun _ => ⟨fun z => absurd z z4, fun _ => ⟨fun _ => ⟨h1, h2, fun z => absurd z a1, fun _ => ⟨fun z => absurd z a2, fun _ => ⟨fun z => absurd z a3, fun _ => ⟨fun _ => h, fun z => absurd a4 z⟩⟩⟩⟩, fun z => absurd z5 z⟩⟩⟩⟩⟩, fun z => absurd qt z⟩) rfl
                · rw [fi_neg a4]
                  by_cases a5 : pt w 27 5 = 26
                  · rw [fi_pos a5, if_pos (Or.inr (Or.inr (Or.inr (Or.inr a5))))]
                    exact po_th (K266 (Or.inr (Or.inr (Or.inr (Or.inr a5))))) (fun h => ⟨fun _ => ⟨fun z => absurd z z1, fun _ => ⟨fun z => absurd z z2, fun _ => ⟨fun z => absurd z z3, fun _ => ⟨fun z => absurd z z4, fun _ => ⟨fun _ => ⟨h1, h2, fun z => absurd z a1, fun _ => ⟨fun z => absurd z a2, fun _ => ⟨fun z => absurd z a3, fun _ => ⟨fun z => absurd z a4, fun _ => ⟨fun _ => h, fun z => absurd a5 z⟩⟩⟩⟩⟩, fun z => absurd z5 z⟩⟩⟩⟩⟩, fun z => absurd qt z⟩) rfl
                  · rw [fi_neg a5, if_neg (show ¬ (pt w 27 5 < 4 ∨ pt w 27 5 = 11 ∨ pt w 27 5 = 8 ∨ pt w 27 5 = 24 ∨ pt w 27 5 = 26) by omega)]
                    exact po_th (X99_plain (v := v) o3 v3 qt hr hk hd ha hb x3 s2) (fun h => ⟨fun _ => ⟨fun z => absurd z z1, fun _ => ⟨fun z => absurd z z2, fun _ => ⟨fun z => absurd z z3, fun _ => ⟨fun z => absurd z z4, fun _ => ⟨fun _ => ⟨h1, h2, fun z => absurd z a1, fun _ => ⟨fun z => absurd z a2, fun _ => ⟨fun z => absurd z a3, fun _ => ⟨fun z => absurd z a4, fun _ => ⟨fun z => absurd z a5, fun _ => ⟨h, trivial⟩⟩⟩⟩⟩⟩, fun z => absurd z5 z⟩⟩⟩⟩⟩, fun z => absurd qt z⟩) rfl
        · rw [fi_neg z5]
          have eN : fRun w v s = none := by
            unfold fRun
            rw [if_neg (show ¬ 1 < pt w 25 2 by omega), if_neg q67, if_neg z5]
          rw [eN]
          exact po_tn ⟨⟨fun _ => ⟨fun z => absurd z z1, fun _ => ⟨fun z => absurd z z2, fun _ => ⟨fun z => absurd z z3, fun _ => ⟨fun z => absurd z z4, fun _ => ⟨fun z => absurd z z5, fun _ => trivial⟩⟩⟩⟩⟩, fun z => absurd qt z⟩, rfl⟩ v1 o1.1
    · rw [fi_neg qt]
      have eN : fRun w v s = none := by
        unfold fRun
        rw [if_pos (show 1 < pt w 25 2 by omega)]
      rw [eN]
      exact po_tn ⟨⟨fun z => absurd z qt, fun _ => trivial⟩, rfl⟩ v1 o1.1
  unfold mdO at K84
  by_cases y : pt w 12 3 = 7
  · rw [fi_pos y]
    rw [if_pos y] at K84
    exact po_th (K84 _ rfl hm) (fun h => ⟨fun _ => h, fun z => absurd y z⟩) rfl
  · rw [fi_neg y]
    rw [if_neg y] at K84
    exact po_th (K84 _ rfl hr) (fun h => ⟨fun z => absurd z y, fun _ => h⟩) rfl
end Uc
