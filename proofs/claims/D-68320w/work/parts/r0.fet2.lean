/-! fetching: an instruction of four bytes; the component's kept one -/
set_option maxRecDepth 100000
theorem ge_ng {x : Int64} (h : ¬ lg_cmp x (Int64.ofInt 0) < 0) : 0 ≤ lg_cmp x (Int64.ofInt 0) := by
  rw [cl_ge]
  rw [cl_lt] at h
  omega
theorem ld2_none {r cr : Nat} {X Y N Nt : FM} (RR : RelRam r cr X Y) (R2 : RelRam r cr N Nt) (h : ∀ y, y < 2 ^ 57 → okR y → y % 8 = 0 → ldT cr Nt y = ldT cr Y y) {x : Int64} (hx : inR x 2) (he : ul x % 2 = 0) : ld2 r N x = ld2 r X x := by
  have p57 : (2 : Nat) ^ 57 = 144115188075855872 := by decide
  obtain ⟨hx1, hx2⟩ := id hx
  have hy : ul x / 8 * 8 < 2 ^ 57 := by omega
  have ok : okR (ul x / 8 * 8) := by
    unfold okR inR
    have eu : ul (lN (ul x / 8 * 8)) = ul x / 8 * 8 := by rw [ul_lN]; omega
    rw [eu]
    omega
  have h8 : ul x / 8 * 8 % 8 = 0 := by omega
  exact ld2_8 RR.1 R2.1 hy ok h8 (by rw [ld_e R2 ok, ld_e RR ok]; exact h _ hy ok h8) (by omega) (by omega)
section F4
variable {p h bd a fu rg u t hv kp fd m c1 f1 d1 w1 hq s dd x dk q rq r g sg bl cr np : Nat} {cf : Nat → Nat} {kn : Int32} {o : Option Wt} {fs : Fs} {B Bk Vv : Nat} {K : Rg} {F T : Nat → Nat} {rt : Int32} {tb : Int64} {X Y Nc Mc Mt : FM} {k j : Nat} {pv ad : Int64} {lo : Int32}
theorem relP_row {S : List Nat} (kc : WK S Mc Nc) (hd : dj [1216] S = true) (R : RelP p h bd a fu cf rg u t hv kp fd m c1 f1 d1 w1 hq s dd x dk q rq r g sg bl cr np kn o fs B Bk Vv K F T rt tb Mc Mt) (i : Nat) : Nc.2.2 3 kp i = Mc.2.2 3 kp i := by
  have W := (relP_ram R).1.2.1
  obtain ⟨n, l, ⟨p', np_, hp⟩, hk⟩ := R.2.2.2.2.2.2.2.1
  have sf : Sf Mc kp 216 := by rw [← hp]; exact sS_216 W np_
  rw [(ka kc sf (wf_n0 W (fm_ist rfl n)) (dj_n hd 1216 rfl) (wf_lt W (fm_ist rfl n))).2.2]
theorem relP_65 (R : RelP p h bd a fu cf rg u t hv kp fd m c1 f1 d1 w1 hq s dd x dk q rq r g sg bl cr np kn o fs B Bk Vv K F T rt tb Mc Mt) (hj : j < 512) : fm_is Mc 65 65 (Mc.2.2 3 kp j) = true := kcP_is (relP_ram R).1.1 R.2.2.2.2.2.2.2.1 hj
theorem relP_kf {S : List Nat} {f : Nat} (kc : WK S Mc Nc) (R : RelP p h bd a fu cf rg u t hv kp fd m c1 f1 d1 w1 hq s dd x dk q rq r g sg bl cr np kn o fs B Bk Vv K F T rt tb Mc Mt) (hj : j < 512) (hf : Nat.ble 4 f = true) (hd : dj [f] S = true) : Nc.1 f (Mc.2.2 3 kp j) 0 = Mc.1 f (Mc.2.2 3 kp j) 0 :=
  congrFun (kf kc hf (dj_n hd f fe_1) (wf_lt (relP_ram R).1.2.1 (fm_ist rfl (relP_65 R hj)))).1 0
theorem kq_ram (q : Kq p k Mc Nc) (RR : RelRam r cr Mc Mt) : RamQ r Mc Nc := (wrR q.2.1 (WK_r (S := []) RR.2.1.2.1) (by decide) (by decide) q.1 RR.2.1.1 RR).2.1
/-- the words that are run -/
theorem fetch_265 (R : RelP p h bd a fu cf rg u t hv kp fd m c1 f1 d1 w1 hq s dd x dk q rq r g sg bl cr np kn o fs B Bk Vv K F T rt tb Mc Mt) : ∃ N, GX46_fetch_265 p k Mc = (Int32.ofInt 1, N) ∧ N.1 219 p 0 = Mc.1 183 k 0 ∧ N.1 220 p 0 = Mc.1 185 k 0 ∧ N.1 221 p 0 = Mc.1 221 p 0 ∧
    RelP p h bd a fu cf rg u t hv kp fd m c1 f1 d1 w1 hq s dd x dk q rq r g sg bl cr np kn o fs B Bk Vv K F T rt tb N Mt ∧ WK [219, 220] Mc N := by
  have np_ := R.1.1.1
  have RR := relP_ram R
  have k1 : WK [219] Mc (fm_sI Mc 219 p 0 (Mc.1 183 k 0)) := WK_I RR.1.2.1 np_ rfl rfl _
  have k2 : WK [220] (fm_sI Mc 219 p 0 (Mc.1 183 k 0)) (fm_sI (fm_sI Mc 219 p 0 (Mc.1 183 k 0)) 220 p 0 ((fm_sI Mc 219 p 0 (Mc.1 183 k 0)).1 185 k 0)) := WK_I k1.1.1 np_ rfl rfl _
  have k12 := WK_t (WK_s (S' := [219, 220]) (by decide) k1) (WK_s (by decide) k2)
  refine ⟨_, rfl, ?_, ?_, ?_, relP_c k12 (by decide) ⟨RR.1.1.1, tyb_sI rfl (tyb_sI rfl RR.1.1.2)⟩ R, k12⟩
  · rw [rIf2 _ (by decide), rIe]
  · rw [rIe, rIf2 _ (by decide)]
  · rw [rIf2 _ (by decide), rIf2 _ (by decide)]
theorem lN_2 : (Int32.ofInt 2).toInt64 = Int64.ofInt 2 := by decide
/-- the second half and what is made of it -/
theorem fetch_4 (R : RelP p h bd a fu cf rg u t hv kp fd m c1 f1 d1 w1 hq s dd x dk q rq r g sg bl cr np kn o fs B Bk Vv K F T rt tb X Y) (To : Told d1 rt tb Y) (hB : Bk < 9223372036854775808) (hV : Vv < 2147483648) (hj : j < 512) (hk : X.2.2 3 kp j = k)
    (h184 : X.1 184 k 0 = Int32.ofInt 4) (hi : inR pv 2) (hev : ul pv % 2 = 0) (hlo : ld2 r X pv = lo) (hl3 : lo &&& Int32.ofInt 3 = Int32.ofInt 3) (had : Y.2.1 347 c1 0 = ad) (hae : ul ad % 2 = 0) (hpa : ul pv % 4096 = ul ad % 4096)
    (hA : ul pv % 4096 + 4 ≤ 4096 → ∃ b, (wfd (ldT cr (fm_sI Y 358 d1 0 (Int32.ofInt 0))) (okLw F T K) (okSw F T K) rt (Int32.ofInt 0) (X.1 37 u 0) (ad + Int64.ofInt 2) tb).1 = .inr b ∧
      (wfd (ldT cr (fm_sI Y 358 d1 0 (Int32.ofInt 0))) (okLw F T K) (okSw F T K) rt (Int32.ofInt 0) (X.1 37 u 0) (ad + Int64.ofInt 2) tb).2.1 = none ∧ pv = lN (b + ul ad % 4096))
    (hs : (¬ X.1 180 k 0 = 0 ∧ KcV r X pv (X.1 183 k 0) (X.1 185 k 0) (X.1 184 k 0)) ∨ (X.1 180 k 0 = 0 ∧ X.1 185 k 0 = lo)) :
    HX46_fetch_127 p pv k X ∧ HX92_half m (nI h) (ad + Int64.ofInt 2) Y ∧ ∃ Nc Nt, Evo r 1 X Nc ∧ WK lX46_fetch X Nc ∧ WK lX92_half Y Nt ∧
      ((∃ sec, sec < 65536 ∧ GX92_half m (nI h) (ad + Int64.ofInt 2) Y = (nI sec, Nt) ∧ GX46_fetch_127 p pv k X = (Int32.ofInt 1, Nc) ∧ Nc.1 219 p 0 = (nI sec <<< (Int32.ofInt 16 &&& 31)) ||| lo ∧ Nc.1 220 p 0 = Nc.1 219 p 0 ∧ Nc.1 221 p 0 = Int32.ofInt 4 ∧
          RelP p h bd a fu cf rg u t hv kp fd m c1 f1 d1 w1 hq s dd x dk q rq r g sg bl cr np kn o fs B (Bk + 1) Vv K F T rt tb Nc Nt ∧ Told d1 rt tb Nt) ∨
       (GX46_fetch_127 p pv k X = (Int32.ofInt 0, Nc) ∧ GX92_half m (nI h) (ad + Int64.ofInt 2) Y = (Int32.ofInt (-1), Nt) ∧ HX92_step_96 m c1 d1 Nt ∧ RelP p h bd a fu cf rg u t hv kp fd m c1 f1 d1 w1 hq s dd x dk q rq r g sg bl cr np kn none fs B (Bk + 1) Vv K F T rt tb Nc (GX92_step_96 m c1 d1 Nt))) := by
  have RR := relP_ram R
  have np_ := R.1.1.1
  have n65 := relP_65 R hj
  have k1 : WK [221] X (fm_sI X 221 p 0 (X.1 184 k 0)) := WK_I RR.1.2.1 np_ rfl rfl _
  have T1 : Ty (fm_sI X 221 p 0 (X.1 184 k 0)) := ⟨RR.1.1.1, tyb_sI rfl RR.1.1.2⟩
  have R1 := relP_c k1 (by decide) T1 R
  have e221 : (fm_sI X 221 p 0 (X.1 184 k 0)).1 221 p 0 = Int32.ofInt 4 := by rw [rIe, h184]
  have e37 : (fm_sI X 221 p 0 (X.1 184 k 0)).1 37 u 0 = X.1 37 u 0 := rIf2 _ (by decide)
  have e18x : ∀ f, f ≠ 221 → (fm_sI X 221 p 0 (X.1 184 k 0)).1 f k 0 = X.1 f k 0 := fun f hf => rIf2 _ hf
  have erow : (fm_sI X 221 p 0 (X.1 184 k 0)).2.2 3 kp j = k := hk
  have ua : ul (ad + Int64.ofInt 2) % 2 = 0 := by
    rw [ul_add, show ul (Int64.ofInt 2) = 2 from rfl]
    omega
  have q01 : RamQ r X (fm_sI X 221 p 0 (X.1 184 k 0)) := (wrR k1 (WK_r (S := []) RR.2.1.2.1) (by decide) (by decide) T1 RR.2.1.1 RR).2.1
  have hP := P_half (ad := ad + Int64.ofInt 2) (off := Int32.ofInt 2) R1 To hB hV ua (by rw [had, lN_2])
  rw [e37] at hP
  generalize hM1 : fm_sI X 221 p 0 (X.1 184 k 0) = M1 at *
  have RR1 := relP_ram R1
  obtain ⟨H1, H2, Nc, Nt, E, kc, kt, hS⟩ := hP
  have row2 : Nc.2.2 3 kp j = k := (relP_row kc (by decide) R1 j).trans erow
  have ev1 : Evo r 1 X Nc := evo_q q01 E
  have kX : WK lX46_fetch X Nc := WK_t (WK_s (by decide) k1) (WK_s (by decide) kc)
  have fld : ∀ f, Nat.ble 4 f = true → dj [f] lX46_half = true → f ≠ 221 → Nc.1 f k 0 = X.1 f k 0 := fun f h1 h2 h3 => by
    have := relP_kf kc R1 hj h1 h2
    rw [erow] at this
    rw [this, e18x f h3]
  have f180 := fld 180 rfl (by decide) (by decide)
  have f183 := fld 183 rfl (by decide) (by decide)
  have f185 := fld 185 rfl (by decide) (by decide)
  have f221 : Nc.1 221 p 0 = Int32.ofInt 4 := (congrFun (kf (f := 221) kc rfl (dj_n (L := [221]) (by decide) 221 rfl) (wf_lt RR1.1.2.1 (fm_ist rfl R1.1.1.1))).1 0).trans e221
  rcases hS with ⟨pv2, e1, e2, i2, pg2, ng2, R2, To2, b, w1_, w2_, w3_⟩ | ⟨e1, e2, hx, R2⟩
  · have ge2 := ge_ng ng2
    have RR2 := relP_ram R2
    have np2 := R2.1.1.1
    have n2 : fm_is Nc 65 65 k = true := by
      have := relP_65 R2 hj
      rw [row2] at this
      exact this
    obtain ⟨sec, s1, s2, s3, s4⟩ := ld2_lt RR2.1 i2
    -- in one page the second place is the next, and memory stays
    have one : ul pv % 4096 + 4 ≤ 4096 → pv2 = pv + Int64.ofInt 2 ∧ ∀ x, inR x 2 → ul x % 2 = 0 → ld2 r Nc x = ld2 r X x := by
      intro hp
      obtain ⟨b', a1, a2, a3⟩ := hA hp
      have hb : b = b' := by
        rw [a1] at w1_
        cases w1_
        rfl
      subst hb
      have hu : ul (ad + Int64.ofInt 2) = ul ad + 2 := by
        have := ul_lt ad
        rw [ul_add, show ul (Int64.ofInt 2) = 2 from rfl]
        omega
      refine ⟨pv_2 a3 w2_ hu (by omega), fun x hx he => ?_⟩
      have nd := R1.2.2.2.2.1.2.1.2.1
      have k8 : WK [358] Y (fm_sI Y 358 d1 0 (Int32.ofInt 0)) := WK_I RR.2.1.2.1 nd rfl rfl _
      have T8 : Ty (fm_sI Y 358 d1 0 (Int32.ofInt 0)) := ⟨RR.2.1.1.1, tyb_sI rfl RR.2.1.1.2⟩
      have R8 := relP_ram (relP_t k8 (by decide) T8 R1)
      rw [ld2_none R8 RR2 (fun y y1 y2 y3 => by rw [w3_ y y1 y2 y3, a2]; rfl) hx he]
      exact ld2_q RR.1 q01 hx he
    rcases hs with ⟨h180, V⟩ | ⟨h180, h185⟩
    · -- kept
      rcases V with ⟨_, _, _, v⟩ | ⟨_, v2, v3, v4, _⟩
      · rw [h184] at v
        exact absurd v (by decide)
      · obtain ⟨o1, o2⟩ := one v2
        have i3 := i2
        rw [o1] at i3
        have es : ld2 r Nc pv2 = ld2 r X (pv + Int64.ofInt 2) := by
          rw [o2 pv2 i2 (by omega), o1]
        obtain ⟨N, g1, g2, g3, g4, g5, g6⟩ := fetch_265 (k := k) R2
        refine ⟨?_, H2, N, Nt, evo_q' ev1 (wrR g6 (WK_r (S := []) RR2.2.1.2.1) (by decide) (by decide) (relP_ram g5).1.1 RR2.2.1.1 RR2).2.1, WK_t kX (WK_s (by decide) g6), kt, Or.inl ⟨sec, s1, by rw [e2, s2], ?_, ?_, ?_, g4.trans f221, g5, To2⟩⟩
        · unfold HX46_fetch_127
          try dsimp only
          rw [hM1, e221, e1]
          exact ⟨fun _ => ⟨H1, fun _ => ⟨fun z => absurd (f180.symm.trans z) h180, fun _ => ⟨fun _ => trivial, fun z => absurd (cl_eq.mpr (congrArg ul o1)) z⟩⟩, fun z => absurd ge2 z⟩, fun z => absurd rfl z⟩
        · unfold GX46_fetch_127
          try dsimp only
          rw [hM1, fi_pos e221, e1]
          try dsimp only
          rw [fi_pos ge2, fi_neg (by rw [f180]; exact h180), fi_pos (cl_eq.mpr (congrArg ul o1)), g1]
        · rw [g2, f183, v3, hlo, ← es, s2]
        · rw [g3, g2, f185, f183, v4]
    · -- made anew
      have z180 : Nc.1 180 k 0 = 0 := f180.trans h180
      have z185 : Nc.1 185 k 0 = lo := f185.trans h185
      have b210 : Nc.2.2 210 p 0 = bd := R2.1.1.2.2.1
      have b18 : Nc.2.2 18 bd 0 = r := R2.2.2.2.2.2.2.2.2.1.1.2.2.1
      have hx4 : lo ||| ((lN sec).toInt32 <<< (Int32.ofInt 16 &&& 31)) = (nI sec <<< (Int32.ofInt 16 &&& 31)) ||| lo := by
        rw [← s2]
        unfold ld2
        rw [s3, Int32.or_comm]
      obtain ⟨K1, K2⟩ := X46_keep (w := (nI sec <<< (Int32.ofInt 16 &&& 31)) ||| lo) (rw_ := (nI sec <<< (Int32.ofInt 16 &&& 31)) ||| lo) RR2.1 np2 n2 b210 b18 hi (ln := Int32.ofInt 4) (l := 4) rfl (by decide)
      have zP := bz_z (ul pv % 4096 + 4 ≤ 4096)
      have q5 : Kq p k Nc (kpR k (bz (ul pv % 4096 + 4 ≤ 4096)) pv (cwr Nc r (pgi pv)) ((nI sec <<< (Int32.ofInt 16 &&& 31)) ||| lo) ((nI sec <<< (Int32.ofInt 16 &&& 31)) ||| lo) (Int32.ofInt 4) Nc) := kpR_q RR2.1.1 RR2.1.2.1 n2 zP
      obtain ⟨v0, v1, v2, v3, v4, v5⟩ := kpR_v (k := k) (is := bz (ul pv % 4096 + 4 ≤ 4096)) (at_ := pv) (wr := cwr Nc r (pgi pv)) (w := (nI sec <<< (Int32.ofInt 16 &&& 31)) ||| lo) (rw_ := (nI sec <<< (Int32.ofInt 16 &&& 31)) ||| lo) (ln := Int32.ofInt 4) (M := Nc)
      generalize hM5 : kpR k (bz (ul pv % 4096 + 4 ≤ 4096)) pv (cwr Nc r (pgi pv)) ((nI sec <<< (Int32.ofInt 16 &&& 31)) ||| lo) ((nI sec <<< (Int32.ofInt 16 &&& 31)) ||| lo) (Int32.ofInt 4) Nc = M5 at *
      obtain ⟨fl, f1_, f2_, f3_⟩ : ∃ fl, (M5.1 180 k 0 &&& fl = 0 ∨ M5.1 180 k 0 &&& fl = 1) ∧ (¬ M5.1 180 k 0 &&& fl = 0 → ul pv % 4096 + 4 ≤ 4096) ∧
          ((lg_cmp pv2 (pv + Int64.ofInt 2) = 0 → fl = Int32.ofInt 1) ∧ (¬ lg_cmp pv2 (pv + Int64.ofInt 2) = 0 → fl = Int32.ofInt 0)) := by
        rw [v0]
        have a1 : ∀ x : Int32, (x = 0 ∨ x = 1) → (x &&& Int32.ofInt 1 = x ∧ x &&& Int32.ofInt 0 = 0) := fun x hx => by
          rcases hx with rfl | rfl
          · exact ⟨by decide, by decide⟩
          · exact ⟨by decide, by decide⟩
        have hz : ¬ bz (ul pv % 4096 + 4 ≤ 4096) = 0 → ul pv % 4096 + 4 ≤ 4096 := fun z => Classical.byContradiction (fun w => z (bz_f w))
        by_cases c : lg_cmp pv2 (pv + Int64.ofInt 2) = 0
        · refine ⟨Int32.ofInt 1, ?_, ?_, fun _ => rfl, fun z => absurd c z⟩
          · rw [(a1 _ zP).1]
            exact zP
          · rw [(a1 _ zP).1]
            exact hz
        · refine ⟨Int32.ofInt 0, ?_, ?_, fun z => absurd z c, fun _ => rfl⟩
          · rw [(a1 _ zP).2]
            exact Or.inl rfl
          · rw [(a1 _ zP).2]
            exact fun z => absurd rfl z
      have n5 : fm_is M5 65 65 k = true := kq_is q5 RR2.1.2.1 n2
      have np5 : fm_is M5 75 75 p = true := kis q5.2.1 RR2.1.2.1 rfl np2
      have q6 : Kq p k Nc (fm_sI M5 180 k 0 (M5.1 180 k 0 &&& fl)) := kq_b q5 n5 f1_
      have rq := kq_ram q6 RR2
      have hE : KcE r (Bk + 1) (Nc.2.2 3 kp j) (fm_sI M5 180 k 0 (M5.1 180 k 0 &&& fl)) := by
        rw [row2]
        intro hn
        rw [rIe] at hn
        have hp := f2_ hn
        obtain ⟨o1, o2⟩ := one hp
        rw [show (fm_sI M5 180 k 0 (M5.1 180 k 0 &&& fl)).2.1 181 k 0 = M5.2.1 181 k 0 from rfl, v1, show (fm_sI M5 180 k 0 (M5.1 180 k 0 &&& fl)).2.1 182 k 0 = M5.2.1 182 k 0 from rfl, v2, rIf2 _ (by decide), rIf2 _ (by decide), rIf2 _ (by decide), v3, v4, v5]
        refine ⟨hi, hev, 0, Nat.zero_le _, by rw [rq.2.2.2.2.1]; exact (Int64.add_zero _).symm, fun _ => ?_⟩
        have el : ld2 r (fm_sI M5 180 k 0 (M5.1 180 k 0 &&& fl)) pv = lo := by rw [ld2_q RR2.1 rq hi hev, o2 pv hi hev, hlo]
        have i3 := i2
        rw [o1] at i3
        have u3 : ul (pv + Int64.ofInt 2) % 2 = 0 := by
          rw [ul_add, show ul (Int64.ofInt 2) = 2 from rfl]
          omega
        have el2 : ld2 r (fm_sI M5 180 k 0 (M5.1 180 k 0 &&& fl)) (pv + Int64.ofInt 2) = nI sec := by rw [ld2_q RR2.1 rq i3 u3, ← o1, s2]
        unfold KcV
        rw [el, el2]
        exact Or.inr ⟨hl3, hp, rfl, rfl, rfl⟩
      obtain ⟨R6, _⟩ := relP_kq hj (by rw [row2]; exact q6) hE R2
      obtain ⟨N, g1, g2, g3, g4, g5, g6⟩ := fetch_265 (k := k) R6
      have RR6 := relP_ram R6
      have lk : p < fm_nx Nc := wf_lt RR2.1.2.1 (fm_ist rfl np2)
      have p221 : (fm_sI M5 180 k 0 (M5.1 180 k 0 &&& fl)).1 221 p 0 = Nc.1 221 p 0 := by
        rw [rIf2 _ (by decide), ← hM5]
        unfold kpR
        rw [rIf2 _ (by decide), rIf2 _ (by decide), rIf2 _ (by decide)]
        show (fm_sI Nc 180 k 0 (bz (ul pv % 4096 + 4 ≤ 4096))).1 221 p 0 = _
        rw [rIf2 _ (by decide)]
      have hH : HX46_fetch_209 p pv k pv2 lo Nc := by
        unfold HX46_fetch_209
        try dsimp only
        rw [b210, b18, s3]
        try dsimp only
        rw [hx4, K2]
        refine ⟨s4, K1, fun c => ?_, fun c => ?_⟩
        · have := f3_.1 c
          subst this
          exact ⟨f1_, trivial⟩
        · have := f3_.2 c
          subst this
          exact ⟨f1_, trivial⟩
      have hG : GX46_fetch_209 p pv k pv2 lo Nc = (Int32.ofInt 1, N) := by
        unfold GX46_fetch_209
        try dsimp only
        rw [b210, b18, s3]
        try dsimp only
        rw [hx4, K2]
        by_cases c : lg_cmp pv2 (pv + Int64.ofInt 2) = 0
        · have := f3_.1 c
          subst this
          rw [fi_pos c]
          unfold GX46_fetch_261
          try dsimp only
          exact g1
        · have := f3_.2 c
          subst this
          rw [fi_neg c]
          unfold GX46_fetch_261
          try dsimp only
          exact g1
      have w183 : (fm_sI M5 180 k 0 (M5.1 180 k 0 &&& fl)).1 183 k 0 = (nI sec <<< (Int32.ofInt 16 &&& 31)) ||| lo := by rw [rIf2 _ (by decide), v3]
      have w185 : (fm_sI M5 180 k 0 (M5.1 180 k 0 &&& fl)).1 185 k 0 = (nI sec <<< (Int32.ofInt 16 &&& 31)) ||| lo := by rw [rIf2 _ (by decide), v5]
      refine ⟨?_, H2, N, Nt, evo_q' (evo_q' ev1 rq) (wrR g6 (WK_r (S := []) RR6.2.1.2.1) (by decide) (by decide) (relP_ram g5).1.1 RR6.2.1.1 RR6).2.1, WK_t (WK_t kX (WK_s (by decide) q6.2.1)) (WK_s (by decide) g6), kt, Or.inl ⟨sec, s1, by rw [e2, s2], ?_, ?_, ?_, (g4.trans p221).trans f221, g5, To2⟩⟩
      · unfold HX46_fetch_127
        try dsimp only
        rw [hM1, e221, e1]
        have h182 : HX46_fetch_182 p pv k pv2 Nc := by
          unfold HX46_fetch_182
          try dsimp only
          rw [z185]
          exact ⟨fun _ => hH, fun z => absurd z180 z⟩
        exact ⟨fun _ => ⟨H1, fun _ => ⟨fun _ => h182, fun z => absurd z180 z⟩, fun z => absurd ge2 z⟩, fun z => absurd rfl z⟩
      · unfold GX46_fetch_127
        try dsimp only
        rw [hM1, fi_pos e221, e1]
        try dsimp only
        rw [fi_pos ge2, fi_pos z180]
        unfold GX46_fetch_182
        try dsimp only
        rw [fi_pos z180, z185, hG]
      · rw [g2, w183]
      · rw [g3, g2, w185, w183]
  · -- no second half
    have ng : ¬ 0 ≤ lg_cmp (Int64.ofInt (-1)) (Int64.ofInt 0) := by decide
    have RR2 := relP_ram R2
    have n2 : fm_is Nc 65 65 k = true := by
      have := relP_65 R2 hj
      rw [row2] at this
      exact this
    have q6 : Kq p k Nc (fm_sI Nc 180 k 0 (Int32.ofInt 0)) := kq_b (kq_r RR2.1.1 RR2.1.2.1) n2 (Or.inl rfl)
    obtain ⟨R6, rq⟩ := relP_kq hj (by rw [row2]; exact q6) (by rw [row2]; exact fun z => absurd (rIe _) z) R2
    refine ⟨?_, H2, _, Nt, evo_q' ev1 rq, WK_t kX (WK_s (by decide) q6.2.1), kt, Or.inr ⟨?_, e2, hx, R6⟩⟩
    · unfold HX46_fetch_127
      try dsimp only
      rw [hM1, e221, e1]
      exact ⟨fun _ => ⟨H1, fun z => absurd z ng, fun _ => trivial⟩, fun z => absurd rfl z⟩
    · unfold GX46_fetch_127
      try dsimp only
      rw [hM1, fi_pos e221, e1]
      try dsimp only
      rw [fi_neg ng]
end F4
