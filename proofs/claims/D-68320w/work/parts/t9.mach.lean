/-! the machine: all its processors; one of them goes on -/
set_option maxRecDepth 100000
def RelX (bd hv m hq s dd x dk q rq r sg bl cr np mc h B Bk Vv : Nat) (Mc Mt : FM) : Prop :=
  ∃ (p a fu : Nat) (cf : Nat → Nat) (rg u t kp fd c1 f1 d1 w1 g : Nat) (kn : Int32) (fs : Fs) (K : Rg) (F T : Nat → Nat) (rt : Int32) (tb : Int64),
    Mc.2.2 3 (Mc.2.2 190 mc 0) h = p ∧ fs.2.2.2.1 = Int32.ofInt 0 ∧ GdC g Mc ∧ RelP p h bd a fu cf rg u t hv kp fd m c1 f1 d1 w1 hq s dd x dk q rq r g sg bl cr np kn none fs B Bk Vv K F T rt tb Mc Mt
def RelM (bd hv m hq s dd x dk q rq r sg bl cr np mc B Bk Vv : Nat) (Mc Mt : FM) : Prop :=
  fm_is Mc 67 67 mc = true ∧ Mc.2.2 189 mc 0 = bd ∧ Mc.2.2 1 (Mc.2.2 190 mc 0) 0 = np ∧ 1 ≤ np ∧ Mt.1 297 m 0 = nI np ∧ (∃ ow, Own ow Mc) ∧ (∃ ow, Own ow Mt) ∧
  ∀ h, h < np → RelX bd hv m hq s dd x dk q rq r sg bl cr np mc h B Bk Vv Mc Mt
theorem xs_dj {L : List Nat} (h : dj [1190, 1303, 1304, 1305, 1306] L = true) : ∀ s, fe_mem xs_S s = true → ¬ SL L (1000 + s) := fun s hs => by
  have e : s = 190 ∨ s = 303 ∨ s = 304 ∨ s = 305 ∨ s = 306 := by
    have := mem_fe hs
    unfold xs_S at this
    simp only [List.mem_cons, List.not_mem_nil, or_false] at this
    exact this
  rcases e with rfl | rfl | rfl | rfl | rfl
  · exact dj_n h 1190 rfl
  · exact dj_n h 1303 rfl
  · exact dj_n h 1304 rfl
  · exact dj_n h 1305 rfl
  · exact dj_n h 1306 rfl
/-- the breaches stay -/
def Sm (m sg : Nat) (N M : FM) : Prop := N.2.1 316 m 0 = M.2.1 316 m 0 ∧ N.2.1 414 sg 0 = M.2.1 414 sg 0
theorem Sm.trans {m sg : Nat} {N M X : FM} (k : Sm m sg X N) (j : Sm m sg N M) : Sm m sg X M := ⟨k.1.trans j.1, k.2.trans j.2⟩
theorem sm_r {m sg : Nat} {M : FM} : Sm m sg M M := ⟨rfl, rfl⟩
section Ma
variable {bd hv m hq s dd x dk q rq r sg bl cr np mc : Nat} {B Bk Vv y : Nat} {Mc Mt Nc Nt : FM} {S S' : List Nat}
theorem relM_ram (R : RelM bd hv m hq s dd x dk q rq r sg bl cr np mc B Bk Vv Mc Mt) : RelRam r cr Mc Mt := by
  obtain ⟨_, _, _, i1, _, _, _, H⟩ := R
  obtain ⟨p, a, fu, cf, rg, u, t, kp, fd, c1, f1, d1, w1, g, kn, fs, K, F, T, rt, tb, hp, hw, Gd, RP⟩ := H 0 (by omega)
  exact relP_ram RP
theorem relM_b (R : RelM bd hv m hq s dd x dk q rq r sg bl cr np mc B Bk Vv Mc Mt) : RelB bd s dd x dk q rq r m sg bl cr np B Mc Mt := by
  obtain ⟨_, _, _, i1, _, _, _, H⟩ := R
  obtain ⟨p, a, fu, cf, rg, u, t, kp, fd, c1, f1, d1, w1, g, kn, fs, K, F, T, rt, tb, hp, hw, Gd, RP⟩ := H 0 (by omega)
  exact RP.2.2.2.2.2.2.2.2
theorem relM_m (R : RelM bd hv m hq s dd x dk q rq r sg bl cr np mc B Bk Vv Mc Mt) : fm_is Mt 92 92 m = true ∧ np ≤ 4 := by
  obtain ⟨_, _, _, i1, _, _, _, H⟩ := R
  obtain ⟨p, a, fu, cf, rg, u, t, kp, fd, c1, f1, d1, w1, g, kn, fs, K, F, T, rt, tb, hp, hw, Gd, RP⟩ := H 0 (by omega)
  exact ⟨RP.2.1.1.1, RP.2.1.1.2.2.1⟩
theorem sm_k (k : WK S' Mt Nt) (hd : dj [316, 414] S' = true) (R : RelM bd hv m hq s dd x dk q rq r sg bl cr np mc B Bk Vv Mc Mt) : Sm m sg Nt Mt := by
  obtain ⟨_, _, _, i1, _, _, _, H⟩ := R
  obtain ⟨p, a, fu, cf, rg, u, t, kp, fd, c1, f1, d1, w1, g, kn, fs, K, F, T, rt, tb, hp, hw, Gd, RP⟩ := H 0 (by omega)
  exact ⟨e316_k k (dj_sub hd (by decide)) RP, e414_k k (dj_sub hd (by decide)) RP⟩
/-- one processor's step -/
theorem M_step (R : RelM bd hv m hq s dd x dk q rq r sg bl cr np mc B Bk Vv Mc Mt) (hy : y < np) (hB : Bk + 16 < 9223372036854775808) (hB' : B < 2147483000) (hV : Vv < 2147483648) :
    HX46_step (Mc.2.2 3 (Mc.2.2 190 mc 0) y) Mc ∧ HX92_step m (nI y) Mt ∧ HX92_check m (nI y) (GX92_step m (nI y) Mt) ∧
    RelM bd hv m hq s dd x dk q rq r sg bl cr np mc (B + 1) (Bk + 2560020) (Vv + 1) (GX46_step (Mc.2.2 3 (Mc.2.2 190 mc 0) y) Mc) (GX92_check m (nI y) (GX92_step m (nI y) Mt)) ∧
    Sm m sg (GX92_check m (nI y) (GX92_step m (nI y) Mt)) Mt ∧ Evo r 2560020 Mc (GX46_step (Mc.2.2 3 (Mc.2.2 190 mc 0) y) Mc) ∧
    WK lX46_step Mc (GX46_step (Mc.2.2 3 (Mc.2.2 190 mc 0) y) Mc) ∧ WK lX92_step Mt (GX92_check m (nI y) (GX92_step m (nI y) Mt)) := by
  obtain ⟨i67, i189, ilen, inp, i297, ⟨ow, Ow⟩, ⟨ow', Ow'⟩, H⟩ := R
  obtain ⟨p, a, fu, cf, rg, u, t, kp, fd, c1, f1, d1, w1, g, kn, fs, K, F, T, rt, tb, hp, hw, Gd, RP⟩ := H y hy
  rw [hp]
  obtain ⟨s1, s2, ⟨fs', K', F', T', rt', tb', E, hw', br, RP'⟩, Gd', kc, kt⟩ := P_step RP hw Gd hB hB' hV
  obtain ⟨e1, RP2, br2, kt2⟩ := P_check RP'
  have RR := relP_ram RP
  have T0 := RR.1.1
  have W := RR.1.2.1
  have Tm := RR.2.1.1
  have W' := RR.2.1.2.1
  have RR1 := relP_ram RP'
  have n75 := RP.1.1.1
  have n92 := RP.2.1.1.1
  have n92' := RP'.2.1.1.1
  have hcl : (nI y).toNatClampNeg = y := o_cl (by have := RP.2.1.1.2.2.1; omega)
  have op : ow p = y + 1 := by
    rw [← hp]
    exact own_row Ow W (tN_190 T0.1 i67) rfl (sS_190 W i67) rfl rfl (by rw [hp]; exact n75) rfl
  have om : ow' m = 0 := own_sh Ow' n92 rfl
  have g1 := gX46_step p Mc T0 n75 s1
  have g2 := gX92_step m (nI y) Mt Tm n92 s2
  have g3 := gX92_check m (nI y) (GX92_step m (nI y) Mt) RR1.2.1.1 n92' e1
  have kc' : Wk (SL lX46_step) (Zo ow (fm_nx Mc) y) y (fm_nx Mc) Mc (GX46_step p Mc) := wX46_step (SL lX46_step) (Zo ow (fm_nx Mc) y) (fun _ h => h) fN p Mc (own_wi Ow T0 W) (Or.inr (Or.inr op)) _ g1.1
  have kt' : Wk (SL lX92_step) (Zo ow' (fm_nx Mt) y) y (fm_nx Mt) Mt (GX92_step m (nI y) Mt) := wX92_step (SL lX92_step) (Zo ow' (fm_nx Mt) y) (fun _ h => h) fN m (nI y) Mt (own_wi Ow' Tm W') (Or.inr (Or.inl om)) hcl _ g2.1
  have Ow1 := own_k Ow T0 W kc' (xs_dj (by decide))
  have Ow1' := own_k Ow' Tm W' kt' (xs_dj (by decide))
  have om1 : owx ow' y (fm_nx Mt) (GX92_step m (nI y) Mt) m = 0 := own_sh Ow1' n92' rfl
  have kt2' := wX92_check (SL lX92_check) (Zo (owx ow' y (fm_nx Mt) (GX92_step m (nI y) Mt)) (fm_nx (GX92_step m (nI y) Mt)) y) (fun _ h => h) m (nI y) (GX92_step m (nI y) Mt) (own_wi Ow1' RR1.2.1.1 RR1.2.1.2.1) (Or.inr (Or.inl om1)) hcl _ g3.1
  have Ow2' := own_k Ow1' RR1.2.1.1 RR1.2.1.2.1 kt2' (xs_dj (by decide))
  have kt12 : WK lX92_step Mt (GX92_check m (nI y) (GX92_step m (nI y) Mt)) := WK_t kt (WK_s (by decide) kt2)
  have n190 := tN_190 T0.1 i67
  have e190 : (GX46_step p Mc).2.2 190 mc 0 = Mc.2.2 190 mc 0 := congrFun (kf (f := 190) kc rfl (dj_n (L := [190]) (by decide) 190 rfl) (wf_lt W (fm_ist rfl i67))).2.2 0
  have r190 : (GX46_step p Mc).2.2 3 (Mc.2.2 190 mc 0) = Mc.2.2 3 (Mc.2.2 190 mc 0) := (ka kc (sS_190 W i67) (wf_n0 W (fm_ist rfl n190)) (dj_n (L := [1190]) (by decide) 1190 rfl) (wf_lt W (fm_ist rfl n190))).2.2
  refine ⟨s1, s2, e1, ⟨kis kc W rfl i67, ?_, ?_, inp, ?_, ⟨_, Ow1⟩, ⟨_, Ow2'⟩, fun h hh => ?_⟩, ⟨br2.1.trans br.1, br2.2.1.trans br.2.1⟩, E, kc, kt12⟩
  · exact (congrFun (kf (f := 189) kc rfl (dj_n (L := [189]) (by decide) 189 rfl) (wf_lt W (fm_ist rfl i67))).2.2 0).trans i189
  · rw [e190, (ktt kc W (fm_ist rfl n190)).2]
    exact ilen
  · exact (congrFun (kf (f := 297) kt12 rfl (dj_n (L := [297]) (by decide) 297 rfl) (wf_lt W' (fm_ist rfl n92))).1 0).trans i297
  · by_cases c : h = y
    · rw [c]
      exact ⟨p, a, fu, cf, rg, u, t, kp, fd, c1, f1, d1, w1, g, kn, fs', K', F', T', rt', tb', by rw [e190, r190]; exact hp, hw', Gd', RP2⟩
    · obtain ⟨p2, a2, fu2, cf2, rg2, u2, t2, kp2, fd2, c2, f2, d2, w2, g2_, kn2, fs2, K2, F2, T2, rt2, tb2, hp2, hw2, Gd2, RP3⟩ := H h hh
      have op2 : ow p2 = h + 1 := by
        rw [← hp2]
        exact own_row Ow W n190 rfl (sS_190 W i67) rfl rfl (by rw [hp2]; exact RP3.1.1.1) rfl
      have R4 := relP_o (fun z => c z.symm) Ow op2 Ow' kc kc' kt kt' (by decide) (by decide) br E RP'.2.2.2.2.2.2.2.2 RP3
      have R5 := relP_t kt2 (by decide) g3.2.1 R4
      have ng : fm_is Mc 90 90 g2_ = true := by
        obtain ⟨⟨rt0, tb0, VC⟩, _⟩ := RP3.2.2.2.2.2.2.1
        rw [← VC.2.2.2.2.1]
        exact tN_288 T0.1 VC.2.2.1
      exact ⟨p2, a2, fu2, cf2, rg2, u2, t2, kp2, fd2, c2, f2, d2, w2, g2_, kn2, fs2, K2, F2, T2, rt2, tb2, by rw [e190, r190]; exact hp2, hw2, gdC_k kc (by decide) T0 W ng Gd2, relP_upw (Nat.le_refl _) (Nat.le_refl _) (by omega) R5⟩
end Ma
