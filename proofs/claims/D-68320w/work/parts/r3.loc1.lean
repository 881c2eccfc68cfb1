/-! finding data: one place -/
set_option maxRecDepth 100000
theorem WK_aL {M : FM} {a s i : Nat} (W : Wf M) (n : fm_is M 902 902 a = true) (sf : Sf M a s) (v : Int64) : WK [1000 + s] M (fm_sL M 3 a i v) :=
  wk_aL (Nat.le_refl _) (wk_r (wi_N W)) rfl n trivial (sy_s sf fe_1)
/-- the mode of data -/
noncomputable def dMo (d : Nat) (M : FM) : Int32 := fi (lb (ht M d 768) 17 = true) (tw (ht M d 768) 11) (M.1 360 d 0)
/-- what a finding gave -/
def PlG (F T : Nat → Nat) (K : Rg) (ac md : Int32) (ea : Nat) (ad pv : Int64) : Prop := ¬ lg_cmp pv (Int64.ofInt 0) < 0 ∧ ul pv < 2 ^ 57 ∧ ul pv % 4096 = ul ad % 4096 ∧ letS F T K.1 (ul pv) ea ac md 8 0
section Lo
variable {p h bd a fu rg u t hv kp fd m c1 f1 d1 w1 hq s dd x dk q rq r g sg bl cr np : Nat} {cf : Nat → Nat} {kn : Int32} {o : Option Wt} {fs : Fs} {B Bk Vv : Nat} {K : Rg} {F T : Nat → Nat} {rt : Int32} {tb : Int64} {Mc Mt : FM} {k many ea : Nat} {ad : Int64} {ac md sz flt : Int32}
theorem loc_s (R : RelP p h bd a fu cf rg u t hv kp fd m c1 f1 d1 w1 hq s dd x dk q rq r g sg bl cr np kn o fs B Bk Vv K F T rt tb Mc Mt) (To : Told d1 rt tb Mt) (hB : Bk < 9223372036854775808) (hV : Vv < 2147483648) (hac : acc3 ac) (hm : md = 0 ∨ md = Int32.ofInt 1 ∨ md = Int32.ofInt 3) (hk : k < many) (hm8 : many ≤ 8)
    (hea : ea = 1 ∨ ea = 2 ∨ ea = 4 ∨ ea = 8) (hw : ul (ad + (nI k).toInt64) % 4096 + ea ≤ 4096) (h322 : (Mt.1 322 m 0 = 0 ∧ ea = 1) ∨ (¬ Mt.1 322 m 0 = 0 ∧ sz = nI ea)) :
    HX46_locate_90 p ad ac sz md (nI many) (nI ea) (nI k) Mc ∧ HX92_finds_68 m (nI h) ad sz ac md flt (nI many) (nI k) Mt ∧ ∃ Nc Nt, Evo r 1 Mc Nc ∧ WK lX46_locate Mc Nc ∧ WK lX92_finds Mt Nt ∧
      ((∃ pv, GX46_locate_90 p ad ac sz md (nI many) (nI ea) (nI k) Mc = .inl (p, ad, ac, sz, md, nI many, nI ea, nI (k + 1), Nc) ∧ GX92_finds_68 m (nI h) ad sz ac md flt (nI many) (nI k) Mt = .inl (m, nI h, ad, sz, ac, md, flt, nI many, nI (k + 1), Nt) ∧
          RelP p h bd a fu cf rg u t hv kp fd m c1 f1 d1 w1 hq s dd x dk q rq r g sg bl cr np kn o fs B (Bk + 1) Vv K F T rt tb Nc Nt ∧ Told d1 rt tb Nt ∧ WK (1121 :: lX46_find) Mc Nc ∧ WK (1323 :: lX101_find) Mt Nt ∧
          (Nc.2.1 3 (Nc.2.2 121 fd 0) k = pv ∧ ∀ i, i ≠ k → Nc.2.1 3 (Nc.2.2 121 fd 0) i = Mc.2.1 3 (Mc.2.2 121 fd 0) i) ∧ (Nt.2.1 3 (Nt.2.2 323 m 0) k = pv ∧ ∀ i, i ≠ k → Nt.2.1 3 (Nt.2.2 323 m 0) i = Mt.2.1 3 (Mt.2.2 323 m 0) i) ∧
          PlG F T K ac md ea (ad + (nI k).toInt64) pv) ∨
       (GX46_locate_90 p ad ac sz md (nI many) (nI ea) (nI k) Mc = .inr (.inr (Int32.ofInt 0, Nc)) ∧ GX92_finds_68 m (nI h) ad sz ac md flt (nI many) (nI k) Mt = .inr (.inr (Int32.ofInt 0, Nt)) ∧ Ty Nt ∧ HX92_step_96 m c1 d1 Nt ∧ RelP p h bd a fu cf rg u t hv kp fd m c1 f1 d1 w1 hq s dd x dk q rq r g sg bl cr np kn none fs B (Bk + 1) Vv K F T rt tb Nc (GX92_step_96 m c1 d1 Nt))) := by
  have RR := relP_ram R
  have T0 := RR.1.1
  have W := RR.1.2.1
  have T' := RR.2.1.1
  have W' := RR.2.1.2.1
  have v9 := R.1.1.2.2.2.2.2.2.2.2.2
  have nfd := R.1.2.2.2
  obtain ⟨y0, y1, y2, y3, ⟨y4, y5⟩, ⟨y6, y7⟩, ⟨y8, y9⟩, ⟨ya, yb⟩, yc⟩ := R.2.1.1
  have hcl : (nI h).toNatClampNeg = h := o_cl (by omega)
  have hck : (nI k).toNatClampNeg = k := o_cl (by omega)
  have hle : ¬ nI many ≤ nI k := fun q => by
    rw [n_le (by omega) (by omega)] at q
    omega
  have hk1 : nI k + Int32.ofInt 1 = nI (k + 1) := nI_a
  have nw1 : fm_is Mt 101 101 w1 = true := R.2.2.2.2.2.2.1.2.1.1
  obtain ⟨pv, Nc, Nt, ⟨f1_, f2_⟩, ⟨g1_, g2_⟩, R2, To2, E2, kc, kt, hval, hmem⟩ := P_find (ad := ad + (nI k).toInt64) (ac := ac) (z := ea) R To hm hac hea hw hB hV
  have RR2 := relP_ram R2
  have W2 := RR2.1.2.1
  have W2' := RR2.2.1.2.1
  have nfd2 := R2.1.2.2.2
  have v9' := R2.1.1.2.2.2.2.2.2.2.2.2
  have n92 : fm_is Nt 92 92 m = true := R2.2.1.1.1
  have e121 : Nc.2.2 121 fd 0 = Mc.2.2 121 fd 0 := congrFun (kf (f := 121) kc rfl (dj_n (L := [121]) (by decide) 121 rfl) (wf_lt W (fm_ist rfl nfd))).2.2 0
  have e323 : Nt.2.2 323 m 0 = Mt.2.2 323 m 0 := congrFun (kf (f := 323) kt rfl (dj_n (L := [323]) (by decide) 323 rfl) (wf_lt W' (fm_ist rfl y0))).2.2 0
  have n121 := tN_121 T0.1 nfd
  have n323 := tN_323 T'.1 y0
  have n121' := tN_121 RR2.1.1.1 nfd2
  have n323' := tN_323 RR2.2.1.1.1 n92
  have r121 := (ka kc (sS_121 W nfd) (wf_n0 W (fm_ist rfl n121)) (dj_n (L := [1121]) (by decide) 1121 rfl) (wf_lt W (fm_ist rfl n121))).2.1
  have r323 := (ka kt (sS_323 W' y0) (wf_n0 W' (fm_ist rfl n323)) (dj_n (L := [1323]) (by decide) 1323 rfl) (wf_lt W' (fm_ist rfl n323))).2.1
  have k1 : WK [1121] Nc (fm_sL Nc 3 (Nc.2.2 121 fd 0) k pv) := WK_aL W2 n121' (sS_121 W2 nfd2) pv
  have k1' : WK [1323] Nt (fm_sL Nt 3 (Nt.2.2 323 m 0) k pv) := WK_aL W2' n323' (sS_323 W2' n92) pv
  have T1 : Ty (fm_sL Nc 3 (Nc.2.2 121 fd 0) k pv) := ⟨RR2.1.1.1, RR2.1.1.2⟩
  have T1' : Ty (fm_sL Nt 3 (Nt.2.2 323 m 0) k pv) := ⟨RR2.2.1.1.1, RR2.2.1.1.2⟩
  have R3 := relP_k k1 k1' (by decide) (by decide) T1 T1' R2
  have To3 := told_k k1' (by decide) RR2.2.1.1 W2' R2.2.2.2.2.1.2.1.2.1 To2
  have inc : fm_in Nc (Nc.2.2 121 fd 0) (nI k) = true := in_nI (tL_121 RR2.1.1.1 nfd2) (by omega) (by decide)
  have inc' : fm_in (fm_sL Nc 3 (Nc.2.2 121 fd 0) k pv) (Nc.2.2 121 fd 0) (nI k) = true := inc
  have intw : fm_in Nt (Nt.2.2 323 m 0) (nI k) = true := in_nI (tL_323 RR2.2.1.1.1 n92) (by omega) (by decide)
  have intw' : fm_in (fm_sL Nt 3 (Nt.2.2 323 m 0) k pv) (Nt.2.2 323 m 0) (nI k) = true := intw
  have z217 : (fm_sL Nc 3 (Nc.2.2 121 fd 0) k pv).2.2 217 p 0 = fd := v9'
  have z121 : (fm_sL Nc 3 (Nc.2.2 121 fd 0) k pv).2.2 121 fd 0 = Nc.2.2 121 fd 0 := rfl
  have z323 : (fm_sL Nt 3 (Nt.2.2 323 m 0) k pv).2.2 323 m 0 = Nt.2.2 323 m 0 := rfl
  have zv : (fm_sL Nc 3 (Nc.2.2 121 fd 0) k pv).2.1 3 (Nc.2.2 121 fd 0) k = pv := rLe _
  have zv' : (fm_sL Nt 3 (Nt.2.2 323 m 0) k pv).2.1 3 (Nt.2.2 323 m 0) k = pv := rLe _
  have oth : ∀ i, i ≠ k → (fm_sL Nc 3 (Nc.2.2 121 fd 0) k pv).2.1 3 (Nc.2.2 121 fd 0) i = Mc.2.1 3 (Mc.2.2 121 fd 0) i := fun i hi => by
    rw [rL, if_neg (fun q => hi q.2.2), e121, r121]
  have oth' : ∀ i, i ≠ k → (fm_sL Nt 3 (Nt.2.2 323 m 0) k pv).2.1 3 (Nt.2.2 323 m 0) i = Mt.2.1 3 (Mt.2.2 323 m 0) i := fun i hi => by
    rw [rL, if_neg (fun q => hi q.2.2), e323, r323]
  have n92' : fm_is (fm_sL Nt 3 (Nt.2.2 323 m 0) k pv) 92 92 m = true := n92
  have EX : Evo r 1 Mc (fm_sL Nc 3 (Nc.2.2 121 fd 0) k pv) := evo_q' E2 (wrR k1 k1' (by decide) (by decide) T1 T1' RR2).2.1
  have kX : WK (1121 :: lX46_find) Mc (fm_sL Nc 3 (Nc.2.2 121 fd 0) k pv) := WK_t (WK_s (by decide) kc) (WK_s (by decide) k1)
  have kX' : WK (1323 :: lX101_find) Mt (fm_sL Nt 3 (Nt.2.2 323 m 0) k pv) := WK_t (WK_s (by decide) kt) (WK_s (by decide) k1')
  have U1 : ∀ Z, GX46_locate_90 p ad ac sz md (nI many) (nI ea) (nI k) Mc = Z ↔ fi (0 ≤ lg_cmp pv (Int64.ofInt 0)) (.inl (p, ad, ac, sz, md, nI many, nI ea, nI (k + 1), fm_sL Nc 3 (Nc.2.2 121 fd 0) k pv))
      (.inr (.inr ((GX46_raise p (-pv).toInt32 (ad + (nI k).toInt64) (fm_sL Nc 3 (Nc.2.2 121 fd 0) k pv)).1, (GX46_raise p (-pv).toInt32 (ad + (nI k).toInt64) (fm_sL Nc 3 (Nc.2.2 121 fd 0) k pv)).2))) = Z := by
    intro Z
    unfold GX46_locate_90
    try dsimp only
    rw [fi_neg hle]
    try dsimp only
    rw [v9, f2_]
    try dsimp only
    rw [← e121, hck, z217, z121, zv, hk1]
  have U2 : ∀ Z, GX92_finds_68 m (nI h) ad sz ac md flt (nI many) (nI k) Mt = Z ↔ fi (0 ≤ lg_cmp pv (Int64.ofInt 0)) (.inl (m, nI h, ad, sz, ac, md, flt, nI many, nI (k + 1), fm_sL Nt 3 (Nt.2.2 323 m 0) k pv))
      (.inr (.inr (Int32.ofInt 0, fm_sL (fm_sI (fm_sL Nt 3 (Nt.2.2 323 m 0) k pv) 320 m 0 (-pv).toInt32) 321 m 0 (ad + (nI k).toInt64)))) = Z := by
    intro Z
    unfold GX92_finds_68
    try dsimp only
    rw [fi_neg hle]
    try dsimp only
    have key : ∀ s6 : Int32, s6 = nI ea → GX92_finds_109 m (nI h) ad sz ac md flt (nI many) (nI k) (Mt.2.2 323 m 0) (nI k) (Mt.2.2 3 (Mt.2.2 306 m 0) (nI h).toNatClampNeg) (ad + (nI k).toInt64) ac md s6 Mt =
        fi (0 ≤ lg_cmp pv (Int64.ofInt 0)) (.inl (m, nI h, ad, sz, ac, md, flt, nI many, nI (k + 1), fm_sL Nt 3 (Nt.2.2 323 m 0) k pv))
          (.inr (.inr (Int32.ofInt 0, fm_sL (fm_sI (fm_sL Nt 3 (Nt.2.2 323 m 0) k pv) 320 m 0 (-pv).toInt32) 321 m 0 (ad + (nI k).toInt64)))) := by
      intro s6 h6
      subst h6
      unfold GX92_finds_109 GX92_fail GX92_fail_0
      try dsimp only
      rw [hcl, yb, g2_]
      try dsimp only
      rw [← e323, hck, z323, zv', hk1]
    rcases h322 with ⟨q1, q2⟩ | ⟨q1, q2⟩
    · rw [fi_pos q1, key (Int32.ofInt 1) (by rw [q2]; rfl)]
    · rw [fi_neg q1, key sz q2]
  have H1 : HX46_locate_90 p ad ac sz md (nI many) (nI ea) (nI k) Mc := by
    unfold HX46_locate_90
    try dsimp only
    refine ⟨fun z => absurd z hle, fun _ => ?_⟩
    try dsimp only
    rw [v9, f2_]
    try dsimp only
    rw [← e121, hck, z217, z121]
    exact ⟨f1_, inc, inc', fun _ => trivial, fun _ => ⟨inc', trivial⟩⟩
  have H2 : HX92_finds_68 m (nI h) ad sz ac md flt (nI many) (nI k) Mt := by
    unfold HX92_finds_68
    try dsimp only
    refine ⟨fun z => absurd z hle, fun _ => ?_⟩
    try dsimp only
    have key : ∀ s6 : Int32, s6 = nI ea → HX92_finds_109 m (nI h) ad sz ac md flt (nI many) (nI k) (Mt.2.2 323 m 0) (nI k) w1 (ad + (nI k).toInt64) ac md s6 Mt := by
      intro s6 h6
      subst h6
      unfold HX92_finds_109
      try dsimp only
      rw [g2_]
      try dsimp only
      rw [← e323, hck, z323]
      exact ⟨g1_, intw, intw', fun _ => trivial, fun _ => ⟨intw', trivial⟩⟩
    rw [hcl, yb]
    refine ⟨in_nI ya (by omega) (by decide), fun q1 => ⟨nw1, ?_⟩, fun q1 => ⟨nw1, ?_⟩⟩
    · rcases h322 with ⟨_, q2⟩ | ⟨q, _⟩
      · exact key _ (by rw [q2]; rfl)
      · exact absurd q1 q
    · rcases h322 with ⟨q, _⟩ | ⟨_, q2⟩
      · exact absurd q q1
      · exact key _ q2
  refine ⟨H1, H2, ?_⟩
  rcases fin_v hac hval with ⟨ng, hf⟩ | ⟨ng, h57, h4096, hl, _⟩
  · have ng' : ¬ 0 ≤ lg_cmp pv (Int64.ofInt 0) := fun z => by
      rw [cl_ge] at z
      rw [cl_lt] at ng
      omega
    obtain ⟨_, kk, hkk, ek⟩ := acF_g hac hf
    have ek' : ui (-pv).toInt32 = kk := by
      rw [ek, ui_nI]
      omega
    have k2 : WK [320] (fm_sL Nt 3 (Nt.2.2 323 m 0) k pv) (fm_sI (fm_sL Nt 3 (Nt.2.2 323 m 0) k pv) 320 m 0 (-pv).toInt32) := WK_I k1'.1.1 n92' rfl rfl _
    have n92'' : fm_is (fm_sI (fm_sL Nt 3 (Nt.2.2 323 m 0) k pv) 320 m 0 (-pv).toInt32) 92 92 m = true := n92
    have k3 : WK [321] (fm_sI (fm_sL Nt 3 (Nt.2.2 323 m 0) k pv) 320 m 0 (-pv).toInt32) (fm_sL (fm_sI (fm_sL Nt 3 (Nt.2.2 323 m 0) k pv) 320 m 0 (-pv).toInt32) 321 m 0 (ad + (nI k).toInt64)) := WK_L k2.1.1 n92'' rfl rfl _
    have T3 : Ty (fm_sL (fm_sI (fm_sL Nt 3 (Nt.2.2 323 m 0) k pv) 320 m 0 (-pv).toInt32) 321 m 0 (ad + (nI k).toInt64)) := ⟨T1'.1, tyb_sI rfl T1'.2⟩
    have k23 := WK_t (WK_s (S' := [320, 321]) (by decide) k2) (WK_s (by decide) k3)
    have R4 := relP_t k23 (by decide) T3 R3
    obtain ⟨Nc2, Nt2, e1, ⟨e2, e3⟩, R5, kr, kr'⟩ := P_raise R4 ek' hkk (ad + (nI k).toInt64) (by
      show (fm_sI (fm_sL Nt 3 (Nt.2.2 323 m 0) k pv) 320 m 0 (-pv).toInt32).1 320 m 0 = _
      exact rIe _) (rLe _)
    have q1 := (wrR kr (WK_r (S := []) k1'.1.1) (by decide) (by decide) (relP_ram R5).1.1 T1' (relP_ram R3)).2.1
    refine ⟨Nc2, _, evo_q' EX q1, WK_t (WK_s (by decide) kX) (WK_s (by decide) kr), WK_t (WK_s (by decide) kX') (WK_s (by decide) k23), Or.inr ⟨(U1 _).mpr ?_, (U2 _).mpr ?_, T3, e2, by rw [e3]; exact R5⟩⟩
    · rw [fi_neg ng', e1]
    · rw [fi_neg ng']
  · have ge := ge_ng ng
    exact ⟨_, _, EX, WK_s (by decide) kX, WK_s (by decide) kX', Or.inl ⟨pv, (U1 _).mpr (fi_pos ge), (U2 _).mpr (fi_pos ge), R3, To3, kX, kX', ⟨zv, oth⟩, ⟨zv', oth'⟩, ng, h57, h4096, hl⟩⟩
end Lo
