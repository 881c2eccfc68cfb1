/-! the machine: what else it holds; what one processor's or the board's going on leaves -/
set_option maxRecDepth 100000
def uMc : List Nat := [189, 190, 1190]
/-- the ring of bytes that wait, and the rounds -/
def RelR (mc m B : Nat) (Mc Mt : FM) : Prop := ∃ (X : Nat → Nat) (z f n : Nat), (∀ k, X k < 256) ∧ f < 65536 ∧ z ≤ 65536 ∧ n ≤ B ∧ (Mc.1 195 mc 0 = nI f ∧ Mt.1 311 m 0 = nI f) ∧ (Mc.1 196 mc 0 = nI z ∧ Mt.1 312 m 0 = nI z) ∧
  (∀ k, k < 65536 → Mc.1 3 (Mc.2.2 194 mc 0) k = sb8 (X k) ∧ Mt.1 3 (Mt.2.2 310 m 0) k = nI (X k)) ∧ Mc.1 197 mc 0 = nI (n % 10) ∧ Mt.2.1 314 m 0 = lN n
/-- the loader and its tape -/
def RelL (mc ld m r cr : Nat) (Mc Mt : FM) : Prop := Mc.2.2 192 mc 0 = ld ∧ Mc.2.2 191 mc 0 = Mc.2.2 186 ld 0 ∧ (∃ X n, RelLd ld m r cr Mc Mt X n) ∧ (Mc.2.1 188 ld 0 = Mt.2.1 313 m 0 ∧ ul (Mc.2.1 188 ld 0) % 2 = 0)
section Rk
variable {mc m ld r cr B B' : Nat} {S S' : List Nat} {Mc Mt Nc Nt : FM}
theorem relR_k (kc : WK S Mc Nc) (kt : WK S' Mt Nt) (hc : dj [194, 195, 196, 197, 1194] S = true) (ht' : dj [310, 311, 312, 314, 1310] S' = true) (T : Ty Mc) (W : Wf Mc) (T' : Ty Mt) (W' : Wf Mt) (n : fm_is Mc 67 67 mc = true) (n' : fm_is Mt 92 92 m = true) (hB : B ≤ B') (R : RelR mc m B Mc Mt) : RelR mc m B' Nc Nt := by
  obtain ⟨X, z, f, k, h1, h2, h3, h4, ⟨h5, h6⟩, ⟨h7, h8⟩, h9, h10, h11⟩ := R
  have lc := wf_lt W (fm_ist rfl n)
  have lm := wf_lt W' (fm_ist rfl n')
  have n194 := tN_194 T.1 n
  have n310 := tN_310 T'.1 n'
  have e := fun (g : Nat) (hf : Nat.ble 4 g = true) (hl : fe_mem [194, 195, 196, 197, 1194] g = true) => kf (f := g) kc hf (dj_n hc g hl) lc
  have e' := fun (g : Nat) (hf : Nat.ble 4 g = true) (hl : fe_mem [310, 311, 312, 314, 1310] g = true) => kf (f := g) kt hf (dj_n ht' g hl) lm
  have a1 := (ka kc (sS_194 W n) (wf_n0 W (fm_ist rfl n194)) (dj_n hc 1194 rfl) (wf_lt W (fm_ist rfl n194))).1
  have a2 := (ka kt (sS_310 W' n') (wf_n0 W' (fm_ist rfl n310)) (dj_n ht' 1310 rfl) (wf_lt W' (fm_ist rfl n310))).1
  refine ⟨X, z, f, k, h1, h2, h3, by omega, ⟨?_, ?_⟩, ⟨?_, ?_⟩, fun j hj => ⟨?_, ?_⟩, ?_, ?_⟩
  · rw [(e 195 rfl rfl).1]; exact h5
  · rw [(e' 311 rfl rfl).1]; exact h6
  · rw [(e 196 rfl rfl).1]; exact h7
  · rw [(e' 312 rfl rfl).1]; exact h8
  · rw [(e 194 rfl rfl).2.2, a1]; exact (h9 j hj).1
  · rw [(e' 310 rfl rfl).2.2, a2]; exact (h9 j hj).2
  · rw [(e 197 rfl rfl).1]; exact h10
  · rw [(e' 314 rfl rfl).2.1]; exact h11
theorem relL_k (kc : WK S Mc Nc) (kt : WK S' Mt Nt) (hc : dj [262, 186, 187, 261, 202, 1261, 188, 191, 192] S = true) (ht' : dj [309, 308, 298, 1308, 313] S' = true) (W : Wf Mc) (W' : Wf Mt) (n : fm_is Mc 67 67 mc = true) (RR' : RelRam r cr Nc Nt) (R : RelL mc ld m r cr Mc Mt) : RelL mc ld m r cr Nc Nt := by
  obtain ⟨h1, h2, ⟨X, k, ⟨_, v1, v2, v3, v4⟩⟩, h5, h6⟩ := R
  have lc := wf_lt W (fm_ist rfl n)
  have nl := v1.2.1
  have ll := wf_lt W (fm_ist rfl nl)
  have lm := wf_lt W' (fm_ist rfl v3.2.1.1)
  obtain ⟨a1, a2⟩ := ldV_k kc ⟨dj_n hc 262 rfl, dj_n hc 186 rfl, dj_n hc 187 rfl, dj_n hc 261 rfl, dj_n hc 202 rfl, dj_n hc 1261 rfl⟩ RR'.1.1 W v1
  obtain ⟨b1, b2⟩ := ltV_k kt ⟨dj_n ht' 309 rfl, dj_n ht' 308 rfl, dj_n ht' 298 rfl, dj_n ht' 1308 rfl⟩ RR'.2.1.1 W' v3
  have e188 : Nc.2.1 188 ld 0 = Mc.2.1 188 ld 0 := congrFun (kf (f := 188) kc rfl (dj_n hc 188 rfl) ll).2.1 0
  have e186 : Nc.2.2 186 ld 0 = Mc.2.2 186 ld 0 := congrFun (kf (f := 186) kc rfl (dj_n hc 186 rfl) ll).2.2 0
  refine ⟨(congrFun (kf (f := 192) kc rfl (dj_n hc 192 rfl) lc).2.2 0).trans h1, ?_, ⟨X, k, RR', a1, a2.trans v2, b1, b2.trans v4⟩, ?_⟩
  · rw [e186, congrFun (kf (f := 191) kc rfl (dj_n hc 191 rfl) lc).2.2 0]
    exact h2
  · rw [e188, congrFun (kf (f := 313) kt rfl (dj_n ht' 313 rfl) lm).2.1 0]
    exact ⟨h5, h6⟩
end Rk
theorem own_n {ow : Nat → Nat} {M N : FM} (h : N.2.2 = M.2.2) (O : Own ow M) : Own ow N := by
  unfold Own Pv at *
  rw [h]
  exact O
section Mb
variable {bd hv m hq s dd x dk q rq r sg bl cr np mc : Nat} {B B' Bk Vv Vv' e y : Nat} {Mc Mt Nc Nt : FM} {S S' : List Nat} {ow ow' : Nat → Nat}
/-- the board goes on: the signals -/
theorem M_g (R : RelM bd hv m hq s dd x dk q rq r sg bl cr np mc B Bk Vv Mc Mt) (kc : WK S Mc Nc) (kt : WK S' Mt Nt) (hc : dj (uMc ++ uCg) S = true) (ht' : dj (297 :: uTg) S' = true) (TN : Ty Nc) (TN' : Ty Nt) (RG : RelG s sg np B Nc Nt) (O1 : ∃ ow, Own ow Nc) (O2 : ∃ ow, Own ow Nt) :
    RelM bd hv m hq s dd x dk q rq r sg bl cr np mc B Bk Vv Nc Nt ∧ RamQ r Mc Nc := by
  have RR := relM_ram R
  obtain ⟨n92, _⟩ := relM_m R
  obtain ⟨i67, i189, ilen, inp, i297, _, _, H⟩ := R
  have T0 := RR.1.1
  have W := RR.1.2.1
  have W' := RR.2.1.2.1
  have n190 := tN_190 T0.1 i67
  have e190 : Nc.2.2 190 mc 0 = Mc.2.2 190 mc 0 := congrFun (kf (f := 190) kc rfl (dj_n hc 190 rfl) (wf_lt W (fm_ist rfl i67))).2.2 0
  have r190 : Nc.2.2 3 (Mc.2.2 190 mc 0) = Mc.2.2 3 (Mc.2.2 190 mc 0) := (ka kc (sS_190 W i67) (wf_n0 W (fm_ist rfl n190)) (dj_n hc 1190 rfl) (wf_lt W (fm_ist rfl n190))).2.2
  have key : ∀ h, h < np → RelX bd hv m hq s dd x dk q rq r sg bl cr np mc h B Bk Vv Nc Nt ∧ RamQ r Mc Nc := fun h hh => by
    obtain ⟨p, a, fu, cf, rg, u, t, kp, fd, c1, f1, d1, w1, g, kn, fs, K, F, T, rt, tb, hp, hw, Gd, RP⟩ := H h hh
    obtain ⟨R2, rq⟩ := relP_g kc kt (dj_sub hc (by decide)) (dj_sub ht' (by decide)) TN TN' RP RG
    have ng : fm_is Mc 90 90 g = true := by
      obtain ⟨⟨rt0, tb0, VC⟩, _⟩ := RP.2.2.2.2.2.2.1
      rw [← VC.2.2.2.2.1]
      exact tN_288 T0.1 VC.2.2.1
    exact ⟨⟨p, a, fu, cf, rg, u, t, kp, fd, c1, f1, d1, w1, g, kn, fs, K, F, T, rt, tb, by rw [e190, r190]; exact hp, hw, gdC_k kc (dj_sub hc (by decide)) T0 W ng Gd, R2⟩, rq⟩
  refine ⟨⟨kis kc W rfl i67, ?_, ?_, inp, ?_, O1, O2, fun h hh => (key h hh).1⟩, (key 0 (by omega)).2⟩
  · exact (congrFun (kf (f := 189) kc rfl (dj_n hc 189 rfl) (wf_lt W (fm_ist rfl i67))).2.2 0).trans i189
  · rw [e190, (ktt kc W (fm_ist rfl n190)).2]
    exact ilen
  · exact (congrFun (kf (f := 297) kt rfl (dj_n ht' 297 rfl) (wf_lt W' (fm_ist rfl n92))).1 0).trans i297
/-- others write -/
theorem M_k (R : RelM bd hv m hq s dd x dk q rq r sg bl cr np mc B Bk Vv Mc Mt) (kc : WK S Mc Nc) (kt : WK S' Mt Nt) (hc : dj (uMc ++ uCc) S = true) (ht' : dj (297 :: uTt) S' = true) (TN : Ty Nc) (TN' : Ty Nt) (O1 : ∃ ow, Own ow Nc) (O2 : ∃ ow, Own ow Nt) :
    RelM bd hv m hq s dd x dk q rq r sg bl cr np mc B Bk Vv Nc Nt ∧ RamQ r Mc Nc := by
  have RR := relM_ram R
  exact M_g R kc kt (dj_sub hc (by decide)) (dj_sub ht' (by decide)) TN TN' (wrG kc kt (dj_sub hc (by decide)) (dj_sub ht' (by decide)) RR.1.1 RR.1.2.1 RR.2.1.1 RR.2.1.2.1 (relM_b R).2.1.1) O1 O2
/-- one processor goes on -/
theorem M_set (R : RelM bd hv m hq s dd x dk q rq r sg bl cr np mc B Bk Vv Mc Mt) (Ow : Own ow Mc) (Ow' : Own ow' Mt) (kc : WK S Mc Nc) (kc' : Wk (SL S) (Zo ow (fm_nx Mc) y) y (fm_nx Mc) Mc Nc) (kt : WK S' Mt Nt) (kt' : Wk (SL S') (Zo ow' (fm_nx Mt) y) y (fm_nx Mt) Mt Nt)
    (hc : dj (uMc ++ (uOc ++ [284, 1284])) S = true) (ht' : dj (297 :: uQ) S' = true) (x2 : dj [1190, 1303, 1304, 1305, 1306] S' = true) (x1 : dj [1190, 1303, 1304, 1305, 1306] S = true)
    (br : Br m y sg Nt Mt) (E : Evo r e Mc Nc) (hV : Vv ≤ Vv') (X' : RelX bd hv m hq s dd x dk q rq r sg bl cr np mc y B' (Bk + e) Vv' Nc Nt) : RelM bd hv m hq s dd x dk q rq r sg bl cr np mc B' (Bk + e) Vv' Nc Nt := by
  have RR := relM_ram R
  obtain ⟨n92, _⟩ := relM_m R
  obtain ⟨i67, i189, ilen, inp, i297, _, _, H⟩ := R
  have T0 := RR.1.1
  have W := RR.1.2.1
  have Tm := RR.2.1.1
  have W' := RR.2.1.2.1
  have n190 := tN_190 T0.1 i67
  have e190 : Nc.2.2 190 mc 0 = Mc.2.2 190 mc 0 := congrFun (kf (f := 190) kc rfl (dj_n hc 190 rfl) (wf_lt W (fm_ist rfl i67))).2.2 0
  have r190 : Nc.2.2 3 (Mc.2.2 190 mc 0) = Mc.2.2 3 (Mc.2.2 190 mc 0) := (ka kc (sS_190 W i67) (wf_n0 W (fm_ist rfl n190)) (dj_n hc 1190 rfl) (wf_lt W (fm_ist rfl n190))).2.2
  have RB' : RelB bd s dd x dk q rq r m sg bl cr np B' Nc Nt := by
    obtain ⟨p, a, fu, cf, rg, u, t, kp, fd, c1, f1, d1, w1, g, kn, fs, K, F, T, rt, tb, hp, hw, Gd, RP⟩ := X'
    exact RP.2.2.2.2.2.2.2.2
  refine ⟨kis kc W rfl i67, ?_, ?_, inp, ?_, ⟨_, own_k Ow T0 W kc' (xs_dj x1)⟩, ⟨_, own_k Ow' Tm W' kt' (xs_dj x2)⟩, fun h hh => ?_⟩
  · exact (congrFun (kf (f := 189) kc rfl (dj_n hc 189 rfl) (wf_lt W (fm_ist rfl i67))).2.2 0).trans i189
  · rw [e190, (ktt kc W (fm_ist rfl n190)).2]
    exact ilen
  · exact (congrFun (kf (f := 297) kt rfl (dj_n ht' 297 rfl) (wf_lt W' (fm_ist rfl n92))).1 0).trans i297
  · by_cases c : h = y
    · rw [c]
      exact X'
    · obtain ⟨p2, a2, fu2, cf2, rg2, u2, t2, kp2, fd2, c2, f2, d2, w2, g2_, kn2, fs2, K2, F2, T2, rt2, tb2, hp2, hw2, Gd2, RP3⟩ := H h hh
      have op2 : ow p2 = h + 1 := by
        rw [← hp2]
        exact own_row Ow W n190 rfl (sS_190 W i67) rfl rfl (by rw [hp2]; exact RP3.1.1.1) rfl
      have R4 := relP_o (fun z => c z.symm) Ow op2 Ow' kc kc' kt kt' (dj_sub hc (by decide)) (dj_sub ht' (by decide)) br E RB' RP3
      have ng : fm_is Mc 90 90 g2_ = true := by
        obtain ⟨⟨rt0, tb0, VC⟩, _⟩ := RP3.2.2.2.2.2.2.1
        rw [← VC.2.2.2.2.1]
        exact tN_288 T0.1 VC.2.2.1
      exact ⟨p2, a2, fu2, cf2, rg2, u2, t2, kp2, fd2, c2, f2, d2, w2, g2_, kn2, fs2, K2, F2, T2, rt2, tb2, by rw [e190, r190]; exact hp2, hw2, gdC_k kc (dj_sub hc (by decide)) T0 W ng Gd2, relP_upw (Nat.le_refl _) (Nat.le_refl _) hV R4⟩
/-- a processor counts a round -/
theorem M_cyc (R : RelM bd hv m hq s dd x dk q rq r sg bl cr np mc B Bk Vv Mc Mt) (hy : y < np) :
    fm_is Mt 95 95 (Mt.2.2 3 (Mt.2.2 305 m 0) y) = true ∧ RelM bd hv m hq s dd x dk q rq r sg bl cr np mc B Bk Vv (fm_sL Mc 41 (Mc.2.2 34 (Mc.2.2 213 (Mc.2.2 3 (Mc.2.2 190 mc 0) y) 0) 0) 0 (Mc.2.1 41 (Mc.2.2 34 (Mc.2.2 213 (Mc.2.2 3 (Mc.2.2 190 mc 0) y) 0) 0) 0 + Int64.ofInt 1))
      (GX100_count (Mt.2.2 3 (Mt.2.2 305 m 0) y) (Int64.ofInt 1) (Int64.ofInt 0) Mt) ∧ RamQ r Mc (fm_sL Mc 41 (Mc.2.2 34 (Mc.2.2 213 (Mc.2.2 3 (Mc.2.2 190 mc 0) y) 0) 0) 0 (Mc.2.1 41 (Mc.2.2 34 (Mc.2.2 213 (Mc.2.2 3 (Mc.2.2 190 mc 0) y) 0) 0) 0 + Int64.ofInt 1)) ∧
    WK [41] Mc (fm_sL Mc 41 (Mc.2.2 34 (Mc.2.2 213 (Mc.2.2 3 (Mc.2.2 190 mc 0) y) 0) 0) 0 (Mc.2.1 41 (Mc.2.2 34 (Mc.2.2 213 (Mc.2.2 3 (Mc.2.2 190 mc 0) y) 0) 0) 0 + Int64.ofInt 1)) ∧ WK lX100_count Mt (GX100_count (Mt.2.2 3 (Mt.2.2 305 m 0) y) (Int64.ofInt 1) (Int64.ofInt 0) Mt) := by
  have R0 := R
  have RR := relM_ram R
  obtain ⟨i67, i189, ilen, inp, i297, ⟨ow, Ow⟩, ⟨ow', Ow'⟩, H⟩ := R
  obtain ⟨p, a, fu, cf, rg, u, t, kp, fd, c1, f1, d1, w1, g, kn, fs, K, F, T, rt, tb, hp, hw, Gd, RP⟩ := H y hy
  have T0 := RR.1.1
  have W := RR.1.2.1
  have Tm := RR.2.1.1
  have W' := RR.2.1.2.1
  have v4 : Mc.2.2 213 p 0 = u := RP.1.1.2.2.2.2.2.1
  have y9 : Mt.2.2 3 (Mt.2.2 305 m 0) y = d1 := RP.2.1.1.2.2.2.2.2.2.1.2
  have n92 := RP.2.1.1.1
  rw [hp, v4, y9]
  have RC := RP.2.2.2.2.1
  have nd := RC.2.1.2.1
  have nu := RC.1.2.1
  have e34 : Mc.2.2 34 u 0 = tbl Mc u 2816 := RC.1.2.2.1.2.2.1.2.2.2.2.2.1
  have n34 := tN_34 T0.1 nu
  have RC2 := rel_cycle RC
  rw [← e34] at RC2
  have kx : WK [41] Mc (fm_sL Mc 41 (Mc.2.2 34 u 0) 0 (Mc.2.1 41 (Mc.2.2 34 u 0) 0 + Int64.ofInt 1)) := WK_L W n34 rfl rfl _
  have gy := gX100_count d1 (Int64.ofInt 1) (Int64.ofInt 0) Mt Tm nd
  have ky : WK lX100_count Mt (GX100_count d1 (Int64.ofInt 1) (Int64.ofInt 0) Mt) := wX100_count (SL lX100_count) (fun _ => True) (fun _ h => h) d1 _ _ Mt (wi_N W') trivial _ gy.1
  obtain ⟨R2, rq2⟩ := relP_u kx ky (by decide) (by decide) RC2.1.1 RC2.2.1.1 RP RC2
  have n190 := tN_190 T0.1 i67
  have op : ow p = y + 1 := by
    rw [← hp]
    exact own_row Ow W n190 rfl (sS_190 W i67) rfl rfl (by rw [hp]; exact RP.1.1.1) rfl
  have oc := oc_o (g := y) Ow
  have ou : ow u = y + 1 := by
    rw [← v4]
    exact oc_f (i := 0) oc op (by rw [v4]; exact nu) rfl rfl
  have o34 : ow (Mc.2.2 34 u 0) = y + 1 := oc_f (i := 0) oc ou n34 rfl rfl
  have kx' : Wk (SL [41]) (Zo ow (fm_nx Mc) y) y (fm_nx Mc) Mc (fm_sL Mc 41 (Mc.2.2 34 u 0) 0 (Mc.2.1 41 (Mc.2.2 34 u 0) 0 + Int64.ofInt 1)) :=
    wk_L (wk_r (own_wi Ow T0 W)) rfl n34 (Or.inr (Or.inr o34)) (lcf rfl fe_1) (Nat.le_refl _)
  have od : ow' d1 = y + 1 := by
    rw [← y9]
    exact own_row Ow' W' (tN_305 Tm.1 n92) rfl (sS_305 W' n92) rfl rfl (by rw [y9]; exact nd) rfl
  have ky' : Wk (SL lX100_count) (Zo ow' (fm_nx Mt) y) y (fm_nx Mt) Mt (GX100_count d1 (Int64.ofInt 1) (Int64.ofInt 0) Mt) := wX100_count (SL lX100_count) (Zo ow' (fm_nx Mt) y) (fun _ h => h) d1 _ _ Mt (own_wi Ow' Tm W') (Or.inr (Or.inr od)) _ gy.1
  have E : Evo r 0 Mc (fm_sL Mc 41 (Mc.2.2 34 u 0) 0 (Mc.2.1 41 (Mc.2.2 34 u 0) 0 + Int64.ofInt 1)) := evo_q' (evo_r r 0 Mc) rq2
  have ng : fm_is Mc 90 90 g = true := by
    obtain ⟨⟨rt0, tb0, VC⟩, _⟩ := RP.2.2.2.2.2.2.1
    rw [← VC.2.2.2.2.1]
    exact tN_288 T0.1 VC.2.2.1
  exact ⟨nd, M_set (e := 0) R0 Ow Ow' kx kx' ky ky' (by decide) (by decide) (by decide) (by decide) (b316 ky (by decide) RP) E (Nat.le_refl _)
    ⟨p, a, fu, cf, rg, u, t, kp, fd, c1, f1, d1, w1, g, kn, fs, K, F, T, rt, tb, hp, hw, gdC_k kx (by decide) T0 W ng Gd, R2⟩, rq2, kx, ky⟩
end Mb
