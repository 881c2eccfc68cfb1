/-! a processor against the twin's: the half at an address, both sides -/
set_option maxRecDepth 100000
section Hf
variable {p h bd a fu rg u t hv kp fd m c1 f1 d1 w1 hq s dd x dk q rq r g sg bl cr np : Nat} {cf : Nat → Nat} {kn : Int32} {o : Option Wt} {fs : Fs} {B Bk Vv : Nat} {K : Rg} {F T : Nat → Nat} {rt : Int32} {tb : Int64} {Mc Mt : FM}
theorem P_half (R : RelP p h bd a fu cf rg u t hv kp fd m c1 f1 d1 w1 hq s dd x dk q rq r g sg bl cr np kn o fs B Bk Vv K F T rt tb Mc Mt) (To : Told d1 rt tb Mt) (hB : Bk < 9223372036854775808) (hV : Vv < 2147483648) {ad : Int64} (hev : ul ad % 2 = 0) {off : Int32} (had : Mt.2.1 347 c1 0 + off.toInt64 = ad) :
    HX46_half p off Mc ∧ HX92_half m (nI h) ad Mt ∧ ∃ Nc Nt, Evo r 1 Mc Nc ∧ WK lX46_half Mc Nc ∧ WK lX92_half Mt Nt ∧
      ((∃ pv, GX46_half p off Mc = (pv, Nc) ∧ GX92_half m (nI h) ad Mt = (ld2 r Nc pv, Nt) ∧ inR pv 2 ∧ ul pv % 4096 = ul ad % 4096 ∧ ¬ lg_cmp pv (Int64.ofInt 0) < 0 ∧ RelP p h bd a fu cf rg u t hv kp fd m c1 f1 d1 w1 hq s dd x dk q rq r g sg bl cr np kn o fs B (Bk + 1) Vv K F T rt tb Nc Nt ∧ Told d1 rt tb Nt ∧
          ∃ b, (wfd (ldT cr (fm_sI Mt 358 d1 0 (Int32.ofInt 0))) (okLw F T K) (okSw F T K) rt (Int32.ofInt 0) (Mc.1 37 u 0) ad tb).1 = .inr b ∧ pv = lN (b + ul ad % 4096) ∧
            (∀ y, y < 2 ^ 57 → okR y → y % 8 = 0 → ldT cr Nt y = lwr (wfd (ldT cr (fm_sI Mt 358 d1 0 (Int32.ofInt 0))) (okLw F T K) (okSw F T K) rt (Int32.ofInt 0) (Mc.1 37 u 0) ad tb).2.1 (ldT cr (fm_sI Mt 358 d1 0 (Int32.ofInt 0))) y)) ∨
       (GX46_half p off Mc = (Int64.ofInt (-1), Nc) ∧ GX92_half m (nI h) ad Mt = (Int32.ofInt (-1), Nt) ∧ HX92_step_96 m c1 d1 Nt ∧ RelP p h bd a fu cf rg u t hv kp fd m c1 f1 d1 w1 hq s dd x dk q rq r g sg bl cr np kn none fs B (Bk + 1) Vv K F T rt tb Nc (GX92_step_96 m c1 d1 Nt))) := by
  have RR := relP_ram R
  have R0 := R
  obtain ⟨PC, PT, OW, RI, RC, RF, RT, KP, RB⟩ := R
  have T' := RR.2.1.1
  have W' := RR.2.1.2.1
  have nd := RC.2.1.2.1
  obtain ⟨v0, v1, v2, v3, v4, v5, v6, v7, v8, v9⟩ := PC.1
  obtain ⟨y0, y1, y2, y3, ⟨y4, y5⟩, ⟨y6, y7⟩, ⟨y8, y9⟩, ⟨ya, yb⟩, yc⟩ := PT.1
  have hcl : (nI h).toNatClampNeg = h := o_cl (by omega)
  have hmode := rel_mode RC
  have hmd := RC.2.2.2.2.1
  have k1 : WK [358] Mt (fm_sI Mt 358 d1 0 (Int32.ofInt 0)) := WK_I W' nd rfl rfl _
  have T1 : Ty (fm_sI Mt 358 d1 0 (Int32.ofInt 0)) := ⟨T'.1, tyb_sI rfl T'.2⟩
  have R1 := relP_t k1 (by decide) T1 R0
  have To1 := told_k k1 (by decide) T' W' nd To
  have hm : Mc.1 37 u 0 = 0 ∨ Mc.1 37 u 0 = Int32.ofInt 1 ∨ Mc.1 37 u 0 = Int32.ofInt 3 := by
    rw [hmd.1]
    exact hmd.2
  generalize hM1 : fm_sI Mt 358 d1 0 (Int32.ofInt 0) = M1 at *
  generalize hE : Mc.1 37 u 0 = md at *
  obtain ⟨pv, Nc, N1, ⟨f1_, f2_⟩, ⟨g1_, g2_⟩, R2, To2, E2, kc, kt, hval, hmem⟩ := P_find (ad := ad) (ac := Int32.ofInt 0) (z := 2) R1 To1 hm (Or.inl rfl) (Or.inr (Or.inl rfl)) (by omega) hB hV
  have RR2 := relP_ram R2
  have W1 := k1.1.1
  have hctr : Mc.2.1 179 (Mc.2.2 171 a 0) 0 = Mt.2.1 347 c1 0 := RI.2.2.2.1
  have nw1 : fm_is M1 101 101 w1 = true := R1.2.2.2.2.2.2.1.2.1.1
  obtain ⟨PC2, PT2, OW2, RI2, RC2, RF2, RT2, KP2, RB2⟩ := id R2
  have b210 : Nc.2.2 210 p 0 = bd := PC2.1.2.2.1
  have b18 : Nc.2.2 18 bd 0 = r := RB2.1.1.2.2.1
  have b298 : N1.2.2 298 m 0 = cr := RB2.1.2.2.1
  have n92 : fm_is N1 92 92 m = true := RB2.1.2.1
  have fv := fin_v (Or.inl rfl) hval
  have hhas : GX11_has r pv (Int64.ofInt 2) Nc = (bz (inR pv 2), Nc) := X11_has RR2.2.2.1 (b := Int64.ofInt 2) (by decide)
  have hare : GX93_areBytes pv (Int64.ofInt 2) N1 = (bz (inR pv 1 ∧ inR pv 2), N1) := X93_areBytes (b := Int64.ofInt 2) (by decide)
  have H1 : HX46_half p off Mc := by
    unfold HX46_half HX46_half_0 GX46_counter GX46_counter_0
    dsimp only
    rw [v3, v5, hctr, had, hE]
    exact ⟨f1_, trivial⟩
  refine ⟨H1, ?_⟩
  -- exceptions
  have Fl : ∀ (c : Int32) (kk : Nat), ui c = kk → kk < 64 → ∃ Nc2, GX46_raise p c ad Nc = (Int32.ofInt 0, Nc2) ∧ HX92_step_96 m c1 d1 (fm_sL (fm_sI N1 320 m 0 c) 321 m 0 ad) ∧
      RelP p h bd a fu cf rg u t hv kp fd m c1 f1 d1 w1 hq s dd x dk q rq r g sg bl cr np kn none fs B (Bk + 1) Vv K F T rt tb Nc2 (GX92_step_96 m c1 d1 (fm_sL (fm_sI N1 320 m 0 c) 321 m 0 ad)) ∧ Evo r 1 Mc Nc2 ∧ WK lX46_half Mc Nc2 ∧ WK lX92_half Mt (fm_sL (fm_sI N1 320 m 0 c) 321 m 0 ad) := by
    intro c kk hc hk
    have k2 : WK [320] N1 (fm_sI N1 320 m 0 c) := WK_I RR2.2.1.2.1 n92 rfl rfl _
    have n92' : fm_is (fm_sI N1 320 m 0 c) 92 92 m = true := n92
    have k3 : WK [321] (fm_sI N1 320 m 0 c) (fm_sL (fm_sI N1 320 m 0 c) 321 m 0 ad) := WK_L k2.1.1 n92' rfl rfl _
    have T3 : Ty (fm_sL (fm_sI N1 320 m 0 c) 321 m 0 ad) := ⟨RR2.2.1.1.1, tyb_sI rfl RR2.2.1.1.2⟩
    have k23 : WK [320, 321] N1 (fm_sL (fm_sI N1 320 m 0 c) 321 m 0 ad) := WK_t (WK_s (by decide) k2) (WK_s (by decide) k3)
    have R3 := relP_t k23 (by decide) T3 R2
    obtain ⟨Nc2, Nt2, e1, ⟨e2, e3⟩, R4, kr, kr'⟩ := P_raise R3 hc hk ad (by
      show (fm_sI N1 320 m 0 c).1 320 m 0 = c
      rw [rI, if_pos ⟨rfl, rfl, rfl⟩]) (by rw [rL, if_pos ⟨rfl, rfl, rfl⟩])
    have RR4 := relP_ram R4
    have q1 := (wrR kr (WK_r (S := []) RR2.2.1.2.1) (by decide) (by decide) RR4.1.1 RR2.2.1.1 RR2).2.1
    refine ⟨Nc2, e1, e2, by rw [e3]; exact R4, evo_q' E2 q1, WK_t (WK_s (by decide) kc) (WK_s (by decide) kr), WK_t (WK_s (by decide) k1) (WK_t (WK_s (by decide) kt) (WK_s (by decide) k23))⟩
  have e2n : (Int32.ofInt 2 : Int32) = nI 2 := rfl
  have U1 : ∀ X, GX46_half p off Mc = X ↔ (fi (lg_cmp pv (Int64.ofInt 0) < 0) (GX46_half_49 p ad pv Nc) (fi ((GX11_has r pv (Int64.ofInt 2) Nc).1 = 0) (GX46_half_49 p ad pv (GX11_has r pv (Int64.ofInt 2) Nc).2) (pv, (GX11_has r pv (Int64.ofInt 2) Nc).2))) = X := by
    intro X
    unfold GX46_half GX46_half_0 GX46_counter GX46_counter_0
    dsimp only
    rw [v3, v5, hctr, had, hE, e2n, f2_]
    dsimp only
    rw [b210, b18]
  have U2 : ∀ X, GX92_half m (nI h) ad Mt = X ↔ (fi (0 ≤ lg_cmp pv (Int64.ofInt 0)) (fi ((GX93_areBytes pv (Int64.ofInt 2) N1).1 = 0) (fi ((GX92_fail m (Int32.ofInt 1) ad (GX93_areBytes pv (Int64.ofInt 2) N1).2).1 = 0) (GX92_half_67 m pv (Int32.ofInt 0) (GX92_fail m (Int32.ofInt 1) ad (GX93_areBytes pv (Int64.ofInt 2) N1).2).2) (GX92_half_62 m pv (GX92_fail m (Int32.ofInt 1) ad (GX93_areBytes pv (Int64.ofInt 2) N1).2).2)) (GX92_half_62 m pv (GX93_areBytes pv (Int64.ofInt 2) N1).2))
      (GX92_half_67 m pv (GX92_fail m (-pv).toInt32 ad N1).1 (GX92_fail m (-pv).toInt32 ad N1).2)) = X := by
    intro X
    unfold GX92_half GX92_half_0
    dsimp only
    rw [hcl, y9, yb, hmode]
    dsimp only
    rw [e2n, g2_]
  have V2 : ((0 ≤ lg_cmp pv (Int64.ofInt 0) → (((GX93_areBytes pv (Int64.ofInt 2) N1).1 = 0 → True) ∧ (¬ (GX93_areBytes pv (Int64.ofInt 2) N1).1 = 0 → HX92_half_62 m pv (GX93_areBytes pv (Int64.ofInt 2) N1).2))) → HX92_half m (nI h) ad Mt) := by
    intro q
    unfold HX92_half HX92_half_0
    dsimp only
    rw [hcl, y9, yb, hmode]
    dsimp only
    rw [e2n, g2_]
    dsimp only
    exact ⟨in_nI ya (by omega) (by decide), in_nI y8 (by omega) (by decide), nd, nw1, g1_, fun z => ⟨fun _ => ⟨fun _ => ⟨fun _ => trivial, fun z2 => absurd rfl z2⟩, fun z2 => absurd rfl z2⟩, (q z).2⟩, fun _ => ⟨fun _ => trivial, fun z2 => absurd rfl z2⟩⟩
  rcases fv with ⟨ng, hf⟩ | ⟨ng, h57, h4096, _, b, hb1, hb2⟩
  · -- a fault of the walk
    obtain ⟨_, kk, hk, ek⟩ := acF_g (Or.inl rfl) hf
    have ek' : ui (-pv).toInt32 = kk := by rw [ek, ui_nI]; omega
    have ng' : ¬ 0 ≤ lg_cmp pv (Int64.ofInt 0) := fun z => by
      rw [cl_ge] at z
      rw [cl_lt] at ng
      omega
    obtain ⟨Nc2, r1, r2, r3, r4, r5, r6⟩ := Fl _ kk ek' hk
    refine ⟨V2 (fun z => absurd z ng'), Nc2, _, r4, r5, r6, Or.inr ⟨(U1 _).mpr ?_, (U2 _).mpr ?_, r2, r3⟩⟩
    · rw [fi_pos ng]
      unfold GX46_half_49 GX46_half_65
      rw [fi_neg ng', r1]
    · rw [fi_neg ng']
      unfold GX92_fail GX92_fail_0 GX92_half_67 GX92_half_89
      dsimp only
      rw [fi_pos (show Int32.ofInt 0 = 0 from rfl)]
  have ge : 0 ≤ lg_cmp pv (Int64.ofInt 0) := by
    rw [cl_ge]
    rw [cl_lt] at ng
    omega
  by_cases hi : inR pv 2
  · -- there
    have hi1 : inR pv 1 ∧ inR pv 2 := ⟨by unfold inR at hi ⊢; omega, hi⟩
    obtain ⟨v, l1, l2, l3, l4⟩ := rel_load RR2 (a := pv) (s := 2) (sz := Int32.ofInt 2) rfl (by decide) (by decide) hi
    refine ⟨V2 (fun _ => ⟨fun _ => trivial, fun _ => ?_⟩), Nc, N1, E2, WK_s (by decide) kc, WK_t (WK_s (by decide) k1) (WK_s (by decide) kt), Or.inl ⟨pv, (U1 _).mpr ?_, (U2 _).mpr ?_, hi, h4096, ng, R2, To2, b, hb1, hb2, hmem⟩⟩
    · rw [hare]
      refine ⟨fun z => absurd z (by decide), fun _ => ?_⟩
      dsimp only
      rw [b298]
      exact ⟨l3, trivial⟩
    · rw [fi_neg ng, hhas, bz_t hi]
      dsimp only
      rw [fi_neg (by decide)]
    · rw [fi_pos ge, hare, bz_t hi1]
      dsimp only
      rw [fi_neg (show ¬ Int32.ofInt 1 = 0 by decide)]
      unfold GX92_half_62 GX92_half_67 GX92_half_89
      dsimp only
      rw [fi_neg (by decide), b298, l4]
      unfold ld2
      rw [l2]
  · -- no memory there
    have hi1 : ¬ (inR pv 1 ∧ inR pv 2) := fun z => hi z.2
    obtain ⟨Nc2, r1, r2, r3, r4, r5, r6⟩ := Fl (Int32.ofInt 1) 1 rfl (by decide)
    refine ⟨V2 (fun _ => ⟨fun _ => trivial, fun z => ?_⟩), Nc2, _, r4, r5, r6, Or.inr ⟨(U1 _).mpr ?_, (U2 _).mpr ?_, r2, r3⟩⟩
    · rw [hare, bz_f hi1] at z
      exact absurd rfl z
    · rw [fi_neg ng, hhas, bz_f hi]
      dsimp only
      rw [fi_pos (show Int32.ofInt 0 = 0 from rfl)]
      unfold GX46_half_49 GX46_half_65
      rw [fi_pos ge, r1]
    · rw [fi_pos ge, hare, bz_f hi1]
      dsimp only
      rw [fi_pos (show Int32.ofInt 0 = 0 from rfl)]
      unfold GX92_fail GX92_fail_0 GX92_half_67 GX92_half_89
      dsimp only
      rw [fi_pos (show Int32.ofInt 0 = 0 from rfl), fi_pos (show Int32.ofInt 0 = 0 from rfl)]
end Hf
