/-! a processor against the twin's: regions are written -/
set_option maxRecDepth 100000
/-- regions are apart; the kinds' numbers -/
def GdC (g : Nat) (M : FM) : Prop := StG g M ∧ OdS M
theorem gdC_k {S : List Nat} {g : Nat} {M N : FM} (k : WK S M N) (hd : dj [10, 284, 1284] S = true) (T0 : Ty M) (W : Wf M) (n : fm_is M 90 90 g = true) (V : GdC g M) : GdC g N := by
  have n1 := tN_284 T0.1 n
  have e : ∀ i, rgn g i N = rgn g i M := fun i => by
    unfold rgn
    rw [(kf (f := 284) k rfl (dj_n hd 284 rfl) (wf_lt W (fm_ist rfl n))).2.2, (ka k (sS_284 W n) (wf_n0 W (fm_ist rfl n1)) (dj_n hd 1284 rfl) (wf_lt W (fm_ist rfl n1))).2.2]
  refine ⟨fun i j hi hj h => V.1 i j hi hj (by rw [← e, ← e]; exact h), fun i hi => ?_⟩
  try dsimp only
  rw [(kf (f := 10) k rfl (dj_n hd 10 rfl) (by have := W.2.2.2; omega)).1]
  exact V.2 i hi
theorem cov_all {K : Rg} (I : VGi K) : ∃ F T : Nat → Nat, covR K F T := by
  have h : ∀ i, ∃ p : Nat × Nat, i < 8 → covP (K.1 i) (K.2 i) (pv K i) p.1 p.2 := fun i => by
    by_cases hi : i < 8
    · obtain ⟨f, t, h⟩ := cov_ex (K.1 i) (b := pv K i) (I i hi).1
      exact ⟨(f, t), fun _ => h⟩
    · exact ⟨(0, 0), fun q => absurd q hi⟩
  obtain ⟨f, hf⟩ := Classical.axiomOfChoice h
  exact ⟨fun i => (f i).1, fun i => (f i).2, fun i hi => hf i hi⟩
theorem vgi_cf {K : Rg} (I : VGi K) (c : Int64) : VGi (cfK c K) := cfK_i I c
theorem vgi_nm {K : Rg} (I : VGi K) (j : Nat) (v : Int64) : VGi (nmK j v K) := nmK_i I j v
section Rg9
variable {p h bd a fu rg u t hv kp fd m c1 f1 d1 w1 hq s dd x dk q rq r g sg bl cr np : Nat} {cf : Nat → Nat} {kn : Int32} {o : Option Wt} {fs : Fs} {B Bk Vv Vv' : Nat} {K K' : Rg} {F T F' T' : Nat → Nat} {rt : Int32} {tb : Int64} {S S' : List Nat} {Mc Mt Nc Nt : FM}
/-- regions changed on both sides: the walks hold -/
theorem relT_G (fr : FrG g Mc Nc) (kt : WK S' Mt Nt) (ht' : dj [423, 424, 425, 426] S' = true) (Tm : Ty Mt) (W' : Wf Mt) (I : VGi K') (C : covR K' F' T') (v1 : VGc g Nc K') (v2 : VGt w1 Nt K')
    (hv' : (Nc.1 285 g 0 = Mc.1 285 g 0 ∧ K' = K ∧ F' = F ∧ T' = T ∧ ∀ i, i < 8 → True) ∨ Nc.1 285 g 0 = Mc.1 285 g 0 + Int32.ofInt 1) (R : RelT t r g w1 cr Bk Vv K F T rt tb Mc Mt)
    (RN : RamI r Nc) (h202 : Nc.1 202 r 0 = Mc.1 202 r 0) (E : Evo r 0 Mc Nc) (hld : RamI r Mc) : RelT t r g w1 cr Bk (Vv + 1) K' F' T' rt tb Nc Nt := by
  obtain ⟨⟨rt0, tb0, c1_, c2_, c3_, c4_, c5_, c6_, c7_, c8_, c9_⟩, ⟨w1_, w2_, w3_, w4_, w5_, w6_, w7_⟩, _, _, St, Ke⟩ := R
  have e0 := fr.1
  have e1 : ∀ f b i, f ≠ 285 → f ≠ 280 → Nc.1 f b i = Mc.1 f b i := fun f b i h1 h2 => fr.2.1 f b i (fun q => q.elim (fun z => h1 z.1) (fun z => h2 z.1))
  have e2 : ∀ f b i, ¬ (281 ≤ f ∧ f ≤ 283) → Nc.2.1 f b i = Mc.2.1 f b i := fun f b i h1 => fr.2.2 f b i (fun q => h1 ⟨q.1, q.2.1⟩)
  have lw := wf_lt W' (fm_ist rfl w1_)
  have k423 := (kf (f := 423) kt rfl (dj_n ht' 423 rfl) lw).2.2
  have k424 := (kf (f := 424) kt rfl (dj_n ht' 424 rfl) lw).2.1
  have k425 := (kf (f := 425) kt rfl (dj_n ht' 425 rfl) lw).1
  have k426 := (kf (f := 426) kt rfl (dj_n ht' 426 rfl) lw).1
  refine ⟨⟨rt0, tb0, RN, h202.trans c2_, ?_, ?_, ?_, v1, ?_, ?_, ?_⟩, ⟨kis kt W' rfl w1_, (congrFun k423 0).trans w2_, kis kt W' rfl w3_, v2, (congrFun k425 0).trans w5_, (congrFun k426 0).trans w6_, (congrFun k424 0).trans w7_⟩, I, C, ?_, fun j hj => ?_⟩
  · unfold fm_is at *
    rw [e0]
    exact c3_
  · rw [e0]
    exact c4_
  · rw [e0]
    exact c5_
  · unfold FaI at *
    have e3 : ∀ b i, Nc.1 3 b i = Mc.1 3 b i := fun b i => e1 3 b i (by decide) (by decide)
    simp only [e0, e3]
    exact c7_
  · rw [e2 289 _ _ (by decide)]
    exact c8_
  · rw [e1 290 _ _ (by decide) (by decide)]
    exact c9_
  · unfold StK kpt at *
    rw [e0]
    exact St
  · have S : KeS t j Mc Nc := by
      unfold KeS kpt
      rw [e0]
      exact ⟨rfl, fun f h1 h2 => ⟨e1 f _ _ (by omega) (by omega), e2 f _ _ (by omega)⟩, rfl, rfl, fun j => ⟨e2 3 _ _ (by decide), e2 3 _ _ (by decide)⟩⟩
    rcases hv' with ⟨q1, q2, q3, q4, _⟩ | q1
    · subst q2 q3 q4
      exact keC_up (ke_tr (c := 0) S q1 E c1_ RN (Ke j hj)) (Nat.le_refl _) (by omega)
    · exact ke_ver S q1 (Ke j hj)
/-- the rights of regions are written -/
theorem P_conf (R : RelP p h bd a fu cf rg u t hv kp fd m c1 f1 d1 w1 hq s dd x dk q rq r g sg bl cr np kn o fs B Bk Vv K F T rt tb Mc Mt) (Gd : GdC g Mc) (c : Int64) :
    ∃ Nc Nt K' F' T', (HX86_configure g c Mc ∧ GX86_configure g c Mc = Nc) ∧ (HX101_setConfigs w1 c Mt ∧ GX101_setConfigs w1 c Mt = Nt) ∧ RelP p h bd a fu cf rg u t hv kp fd m c1 f1 d1 w1 hq s dd x dk q rq r g sg bl cr np kn o fs B Bk (Vv + 1) K' F' T' rt tb Nc Nt ∧ RamQ r Mc Nc ∧ WK lX86_configure Mc Nc ∧ WK lX101_setConfigs Mt Nt := by
  have RR := relP_ram R
  have RT := R.2.2.2.2.2.2.1
  obtain ⟨⟨rt0, tb0, V⟩, Vt, I, C, St, Ke⟩ := id RT
  have ng : fm_is Mc 90 90 g = true := by
    try dsimp only
    rw [← V.2.2.2.2.1]
    exact tN_288 RR.1.1.1 V.2.2.1
  have V0 : VG0 g Mc K := fun i hi => ⟨(V.2.2.2.2.2.1 i hi).1, (V.2.2.2.2.2.1 i hi).2.1⟩
  obtain ⟨Nc, ⟨a1, a2⟩, TN, fr, v1, x285⟩ := X86_configure I c RR.1.1 ng Gd.1 Gd.2 V0
  obtain ⟨Nt, ⟨b1, b2⟩, TN', fr', v2⟩ := X101_setConfigs I c RR.2.1.1 Vt.1 Vt.2.2.2.1
  have ga := gX86_configure g c Mc a1
  have gb := gX101_setConfigs w1 c Mt b1
  have kc := wX86_configure (SL lX86_configure) (fun _ => True) (fun _ h => h) fN g c Mc (wi_N RR.1.2.1) trivial _ ga.1
  have kt := wX101_setConfigs (SL lX101_setConfigs) (fun _ => True) (fun _ h => h) fN w1 c Mt (wi_N RR.2.1.2.1) trivial _ gb.1
  rw [a2] at kc
  rw [b2] at kt
  obtain ⟨F', T', C'⟩ := cov_all (vgi_cf I c)
  obtain ⟨R2, rq⟩ := relP_w (S := lX86_configure) (S' := lX101_setConfigs) (K' := cfK c K) (F' := F') (T' := T') (Vv' := Vv + 1) (rt' := rt) (tb' := tb) kc kt (by decide) (by decide) TN TN' R
    (fun RN h202 E _ => relT_G (S' := lX101_setConfigs) fr kt (by decide) RR.2.1.1 RR.2.1.2.1 (vgi_cf I c) C' v1 v2 (Or.inr x285) RT RN h202 E RR.1)
  exact ⟨Nc, Nt, _, F', T', ⟨a1, a2⟩, ⟨b1, b2⟩, R2, rq, kc, kt⟩
theorem P_numb (R : RelP p h bd a fu cf rg u t hv kp fd m c1 f1 d1 w1 hq s dd x dk q rq r g sg bl cr np kn o fs B Bk Vv K F T rt tb Mc Mt) (Gd : GdC g Mc) {i : Nat} (hi : i < 8) (v : Int64) :
    ∃ Nc Nt K' F' T', (HX86_number g (nI i) v Mc ∧ GX86_number g (nI i) v Mc = Nc) ∧ (HX101_setNumber w1 (nI i) v Mt ∧ GX101_setNumber w1 (nI i) v Mt = Nt) ∧ RelP p h bd a fu cf rg u t hv kp fd m c1 f1 d1 w1 hq s dd x dk q rq r g sg bl cr np kn o fs B Bk (Vv + 1) K' F' T' rt tb Nc Nt ∧ RamQ r Mc Nc ∧ WK lX86_number Mc Nc ∧ WK lX101_setNumber Mt Nt := by
  have RR := relP_ram R
  have RT := R.2.2.2.2.2.2.1
  obtain ⟨⟨rt0, tb0, V⟩, Vt, I, C, St, Ke⟩ := id RT
  have ng : fm_is Mc 90 90 g = true := by
    try dsimp only
    rw [← V.2.2.2.2.1]
    exact tN_288 RR.1.1.1 V.2.2.1
  obtain ⟨Nc, ⟨a1, a2⟩, TN, fr, v1, x285⟩ := X86_number I RR.1.1 ng Gd.1 Gd.2 V.2.2.2.2.2.1 hi v
  obtain ⟨Nt, ⟨b1, b2⟩, TN', fr', v2⟩ := X101_setNumber I RR.2.1.1 Vt.1 Vt.2.2.2.1 hi v
  have ga := gX86_number g (nI i) v Mc RR.1.1 ng a1
  have gb := gX101_setNumber w1 (nI i) v Mt RR.2.1.1 Vt.1 b1
  have kc := wX86_number (SL lX86_number) (fun _ => True) (fun _ h => h) fN g (nI i) v Mc (wi_N RR.1.2.1) trivial _ ga.1
  have kt := wX101_setNumber (SL lX101_setNumber) (fun _ => True) (fun _ h => h) w1 (nI i) v Mt (wi_N RR.2.1.2.1) trivial _ gb.1
  rw [a2] at kc
  rw [b2] at kt
  have fin : ∀ F' T', covR (nmK i v K) F' T' → ((Nc.1 285 g 0 = Mc.1 285 g 0 ∧ nmK i v K = K ∧ F' = F ∧ T' = T ∧ ∀ i, i < 8 → True) ∨ Nc.1 285 g 0 = Mc.1 285 g 0 + Int32.ofInt 1) →
      ∃ Nc Nt K' F' T', (HX86_number g (nI i) v Mc ∧ GX86_number g (nI i) v Mc = Nc) ∧ (HX101_setNumber w1 (nI i) v Mt ∧ GX101_setNumber w1 (nI i) v Mt = Nt) ∧ RelP p h bd a fu cf rg u t hv kp fd m c1 f1 d1 w1 hq s dd x dk q rq r g sg bl cr np kn o fs B Bk (Vv + 1) K' F' T' rt tb Nc Nt ∧ RamQ r Mc Nc ∧ WK lX86_number Mc Nc ∧ WK lX101_setNumber Mt Nt := by
    intro F' T' C' hx
    obtain ⟨R2, rq⟩ := relP_w (S := lX86_number) (S' := lX101_setNumber) (K' := nmK i v K) (F' := F') (T' := T') (Vv' := Vv + 1) (rt' := rt) (tb' := tb) kc kt (by decide) (by decide) TN TN' R
      (fun RN h202 E _ => relT_G (S' := lX101_setNumber) fr kt (by decide) RR.2.1.1 RR.2.1.2.1 (vgi_nm I i v) C' v1 v2 hx RT RN h202 E RR.1)
    exact ⟨Nc, Nt, _, F', T', ⟨a1, a2⟩, ⟨b1, b2⟩, R2, rq, kc, kt⟩
  rcases x285 with ⟨q1, q2⟩ | q1
  · exact fin F T (by rw [q2]; exact C) (Or.inl ⟨q1, q2, rfl, rfl, fun _ _ => trivial⟩)
  · obtain ⟨F', T', C'⟩ := cov_all (vgi_nm I i v)
    exact fin F' T' C' (Or.inr q1)
end Rg9
