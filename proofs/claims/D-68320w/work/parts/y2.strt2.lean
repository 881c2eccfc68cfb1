/-! start: all processors are reset, both sides; start, whole -/
set_option maxRecDepth 100000
theorem own_r0 {ow : Nat → Nat} {M : FM} {a lo s : Nat} (Ow : Own ow M) (W : Wf M) (n : fm_is M lo lo a = true) (hl : Nat.ble 1 lo = true) (sf : Sf M a s) (hb : pvb lo s = false) : ow a = 0 := by
  have t0 : M.2.2 0 a 0 = lo := by have := fm_isd n; omega
  have t1 : M.2.2 0 a 1 = s := by
    rcases sf with z | z
    · exact absurd z (wf_n0 W (fm_ist hl n))
    · exact z.2
  exact own_0 Ow (by unfold Pv; rw [t0, t1]; exact hb)
section St2
variable {bd hv m hq s dd x dk q rq r sg bl cr np mc : Nat} {B Bk Vv ld d row y : Nat} {Mc Mt M N : FM} {S : List Nat} {e : Int64} {ow ow' : Nat → Nat}
/-- whose all that is, out of the relation -/
theorem owh_M (R : RelM bd hv m hq s dd x dk q rq r sg bl cr np mc B Bk Vv Mc Mt) (Ow' : Own ow' Mt) : (∀ h, h < np → OwH ow' Mt.2.2 m h) ∧ OwR ow' Mt.2.2 m cr ∧ BgL m Mt ∧ BgH m np Mt := by
  have RR := relM_ram R
  obtain ⟨n92, np4⟩ := relM_m R
  have Tm := RR.2.1.1
  have W' := RR.2.1.2.1
  have n98 := RR.2.1.2.2.1
  have oc := fun h => oc_o (g := h) Ow'
  have key : ∀ h, h < np → OwH ow' Mt.2.2 m h ∧ (BgL m Mt ∧ fm_is Mt 94 94 (Mt.2.2 3 (Mt.2.2 303 m 0) h) = true ∧ fm_is Mt 96 96 (Mt.2.2 3 (Mt.2.2 304 m 0) h) = true ∧ fm_is Mt 95 95 (Mt.2.2 3 (Mt.2.2 305 m 0) h) = true ∧ fm_is Mt 101 101 (Mt.2.2 3 (Mt.2.2 306 m 0) h) = true) := fun h hh => by
    obtain ⟨p, a, fu, cf, rg, u, t, kp, fd, c1, f1, d1, w1, g, kn, fs, K, F, T, rt, tb, hp, hw, Gd, RP⟩ := R.2.2.2.2.2.2.2 h hh
    obtain ⟨_, y1, y2, y3, ⟨y4, y5⟩, ⟨y6, y7⟩, ⟨y8, y9⟩, ⟨ya, yb⟩, yc⟩ := RP.2.1.1
    have n94 := RP.2.2.2.1.2.1
    have n96 := RP.2.2.2.2.2.1.2.1.2.1
    have n95 := RP.2.2.2.2.1.2.1.2.1
    have n101 := RP.2.2.2.2.2.2.1.2.1.1
    have r1 := own_row (i := h) Ow' W' (tN_303 Tm.1 n92) rfl (sS_303 W' n92) rfl rfl (by rw [y5]; exact n94) rfl
    have r2 := own_row (i := h) Ow' W' (tN_304 Tm.1 n92) rfl (sS_304 W' n92) rfl rfl (by rw [y7]; exact n96) rfl
    have r3 := own_row (i := h) Ow' W' (tN_305 Tm.1 n92) rfl (sS_305 W' n92) rfl rfl (by rw [y9]; exact n95) rfl
    have r4 := own_row (i := h) Ow' W' (tN_306 Tm.1 n92) rfl (sS_306 W' n92) rfl rfl (by rw [yb]; exact n101) rfl
    refine ⟨⟨⟨r1, ?_⟩, ⟨r2, ?_⟩, ⟨r3, ?_⟩, ?_, ?_⟩, ⟨y4, y6, y8, ya, yc⟩, by rw [y5]; exact n94, by rw [y7]; exact n96, by rw [y9]; exact n95, by rw [yb]; exact n101⟩
    · exact oc_a (oc h) W' r1 (tN_346 Tm.1 (by rw [y5]; exact n94)) (sS_346 W' (by rw [y5]; exact n94)) rfl rfl rfl rfl
    · exact oc_a (oc h) W' r2 (tN_367 Tm.1 (by rw [y7]; exact n96)) (sS_367 W' (by rw [y7]; exact n96)) rfl rfl rfl rfl
    · exact oc_a (oc h) W' r3 (tN_361 Tm.1 (by rw [y9]; exact n95)) (sS_361 W' (by rw [y9]; exact n95)) rfl rfl rfl rfl
    · exact oc_a (oc h) W' r4 (tN_427 Tm.1 (by rw [yb]; exact n101)) (sS_427 W' (by rw [yb]; exact n101)) rfl rfl rfl rfl
    · exact oc_a (oc h) W' r4 (tN_428 Tm.1 (by rw [yb]; exact n101)) (sS_428 W' (by rw [yb]; exact n101)) rfl rfl rfl rfl
  have np1 := R.2.2.2.1
  have n307 := tN_307 Tm.1 n92
  have n388 := tN_388 Tm.1 n98
  have n389 := tN_389 Tm.1 n98
  have n391 := tN_391 Tm.1 n98
  exact ⟨fun h hh => (key h hh).1, ⟨⟨own_r0 Ow' W' n307 rfl (sS_307 W' n92) rfl, own_r0 Ow' W' n388 rfl (sS_388 W' n98) rfl, own_r0 Ow' W' n389 rfl (sS_389 W' n98) rfl, own_r0 Ow' W' n391 rfl (sS_391 W' n98) rfl⟩,
    tr_ne Tm W' n98, nis n388 n307 (by decide), nis n389 n307 (by decide), nis n391 n307 (by decide)⟩, (key 0 (by omega)).2.1, fun h hh => (key h hh).2.2⟩
/-- the twin's writes of one processor's reset, by what that processor may reach -/
theorem tw_own {Z : Nat → Prop} {hx : Nat} {M : FM} {h : Nat} (b : BgT m cr np e M) (W : Wf M) (hh : h < np) (w : WI Z hx (fm_nx M) M) (z1 : Z (M.2.2 3 (M.2.2 303 m 0) h)) (z2 : Z (M.2.2 3 (M.2.2 304 m 0) h)) (z3 : Z (M.2.2 3 (M.2.2 305 m 0) h)) (z4 : Z (M.2.2 3 (M.2.2 306 m 0) h)) (zm : Z m) (zr : Z cr) :
    Wk (SL lTw) Z hx (fm_nx M) M (rsS M.2.2 m h (rsA M.2.2 m cr e h M)) := by
  obtain ⟨T, n92, v297, np4, ⟨v298, n98⟩, v313, _, bh⟩ := b
  obtain ⟨n94, n96, n95, n101⟩ := bh h hh
  have hN : fm_nx M ≤ fm_nx M := Nat.le_refl _
  obtain ⟨h1, e1⟩ := sr_core T n94 e
  have g1 := gX98_reset _ e M h1
  have k1 := wX98_reset (SL lTw) Z (me_s (by decide)) fN _ e M w z1 _ g1.1
  have T1 := g1.2.1
  rw [e1] at k1 T1
  obtain ⟨C1, hC1, r1⟩ : ∃ C : FM, rsCo (M.2.2 346 (M.2.2 3 (M.2.2 303 m 0) h) 0) (M.2.2 3 (M.2.2 303 m 0) h) e M = C ∧ C.2.2 = M.2.2 := ⟨_, rfl, rfl⟩
  rw [hC1] at k1 T1
  have is1 : ∀ {lo hi a : Nat}, fm_is M lo hi a = true → fm_is C1 lo hi a = true := fun {lo hi a} q => by unfold fm_is at *; rw [r1]; exact q
  obtain ⟨h2, e2⟩ := sr_float T1 (is1 n96)
  have g2 := gX99_reset _ C1 h2
  have k2 := wX99_reset (SL lTw) Z (me_s (by decide)) fN _ C1 k1.1 z2 _ g2.1
  have T2 := g2.2.1
  rw [e2, r1] at k2 T2
  obtain ⟨C2, hC2, r2⟩ : ∃ C : FM, rsFl (M.2.2 367 (M.2.2 3 (M.2.2 304 m 0) h) 0) (M.2.2 3 (M.2.2 304 m 0) h) C1 = C ∧ C.2.2 = M.2.2 := ⟨_, rfl, r1⟩
  rw [hC2] at k2 T2
  have is2 : ∀ {lo hi a : Nat}, fm_is M lo hi a = true → fm_is C2 lo hi a = true := fun {lo hi a} q => by unfold fm_is at *; rw [r2]; exact q
  have w2 := wk_t k1 k2 hN
  obtain ⟨h3, e3⟩ := sr_desk T2 (is2 n95)
  have g3 := gX100_reset _ C2 h3
  have k3 := wX100_reset (SL lTw) Z (me_s (by decide)) fN _ C2 w2.1 z3 _ g3.1
  have T3 := g3.2.1
  rw [e3, r2] at k3 T3
  obtain ⟨C3, hC3, r3⟩ : ∃ C : FM, rsDe (M.2.2 361 (M.2.2 3 (M.2.2 305 m 0) h) 0) (M.2.2 3 (M.2.2 305 m 0) h) C2 = C ∧ C.2.2 = M.2.2 := ⟨_, rfl, r2⟩
  rw [hC3] at k3 T3
  have is3 : ∀ {lo hi a : Nat}, fm_is M lo hi a = true → fm_is C3 lo hi a = true := fun {lo hi a} q => by unfold fm_is at *; rw [r3]; exact q
  have w3 := wk_t w2 k3 hN
  obtain ⟨h4, e4⟩ := sr_walk T3 (is3 n101)
  have g4 := gX101_reset _ C3 h4
  have k4 := wX101_reset (SL lTw) Z (me_s (by decide)) fN _ C3 w3.1 z4 _ g4.1
  have T4 := g4.2.1
  rw [e4, r3] at k4 T4
  obtain ⟨C4, hC4, r4⟩ : ∃ C : FM, rsWk (M.2.2 428 (M.2.2 3 (M.2.2 306 m 0) h) 0) (M.2.2 427 (M.2.2 3 (M.2.2 306 m 0) h) 0) C3 = C ∧ C.2.2 = M.2.2 := ⟨_, rfl, r3⟩
  rw [hC4] at k4 T4
  have w4 := wk_t w3 k4 hN
  have is4 : ∀ {lo hi a : Nat}, fm_is M lo hi a = true → fm_is C4 lo hi a = true := fun {lo hi a} q => by unfold fm_is at *; rw [r4]; exact q
  have sf4 : ∀ {a s : Nat}, Sf M a s → Sf C4 a s := fun {a s} q => by unfold Sf at *; rw [r4]; exact q
  have s7 := fe_mem_of (l := lTw) (show 1000 + 307 ∈ lTw by decide)
  have s9 := fe_mem_of (l := lTw) (show 1000 + 389 ∈ lTw by decide)
  have s6 := fe_mem_of (l := lTw) (show 1000 + 346 ∈ lTw by decide)
  have s5 := fe_mem_of (l := lTw) (show 345 ∈ lTw by decide)
  have zz := fun (f a : Nat) (hf : Nat.ble 4 f = true) (za : Z a) => (w.2.1 f a 0 (by have := Nat.le_of_ble_eq_true hf; omega) za (fun q => by have := Nat.le_of_ble_eq_true hf; omega) : Z (M.2.2 f a 0))
  have w5 : Wk (SL lTw) Z hx (fm_nx M) M (fm_sI C4 3 (M.2.2 307 m 0) h (Int32.ofInt 0)) := wk_aI hN w4 rfl (is4 (tN_307 T.1 n92)) (zz 307 m rfl zm) (sy_s (sf4 (sS_307 W n92)) s7)
  have w6 : Wk (SL lTw) Z hx (fm_nx M) M (fm_sL (fm_sI C4 3 (M.2.2 307 m 0) h (Int32.ofInt 0)) 3 (M.2.2 389 cr 0) h (Int64.ofInt 0)) := wk_aL hN w5 rfl (is4 (tN_389 T.1 n98)) (zz 389 cr rfl zr) (sy_s (sf4 (sS_389 W n98)) s9)
  have w7 := wk_fI (f := 345) (i := 0) (a := M.2.2 3 (M.2.2 303 m 0) h) (v := Int32.ofInt 0) hN w6 rfl rfl (is4 n94) z1 (Or.inr s5)
  have w8 := wk_aL (a := M.2.2 346 (M.2.2 3 (M.2.2 303 m 0) h) 0) (i := 10) (v := lN h) hN w7 rfl (is4 (tN_346 T.1 n94)) (zz 346 _ rfl z1) (sy_s (sf4 (sS_346 W n94)) s6)
  have w9 := wk_fI (f := 345) (i := 0) (a := M.2.2 3 (M.2.2 303 m 0) h) (v := Int32.ofInt 0) hN w8 rfl rfl (is4 n94) z1 (Or.inr s5)
  have wA := wk_aL (a := M.2.2 346 (M.2.2 3 (M.2.2 303 m 0) h) 0) (i := 11) (v := Int64.ofInt 2151669760) hN w9 rfl (is4 (tN_346 T.1 n94)) (zz 346 _ rfl z1) (sy_s (sf4 (sS_346 W n94)) s6)
  subst hC4 hC3 hC2 hC1
  exact wA
theorem saN_297 {R : Rfs} {b : Nat} : ∀ n, (saN R m cr e n M).1 297 b 0 = M.1 297 b 0
  | 0 => rfl
  | n + 1 => saN_297 n
theorem saN_313 {R : Rfs} {b : Nat} : ∀ n, (saN R m cr e n M).2.1 313 b 0 = M.2.1 313 b 0
  | 0 => rfl
  | n + 1 => saN_313 n
/-- one processor is reset, in the machine -/
theorem M_res1 (R : RelM bd hv m hq s dd x dk q rq r sg bl cr np mc B Bk Vv Mc Mt) (hy : y < np) (he : ev e) (h313 : Mt.2.1 313 m 0 = e) : HX46_reset (Mc.2.2 3 (Mc.2.2 190 mc 0) y) e Mc ∧ RelM bd hv m hq s dd x dk q rq r sg bl cr np mc B Bk (Vv + 1) (GX46_reset (Mc.2.2 3 (Mc.2.2 190 mc 0) y) e Mc) (rsS Mt.2.2 m y (rsA Mt.2.2 m cr e y Mt)) ∧
    Evo r 0 Mc (GX46_reset (Mc.2.2 3 (Mc.2.2 190 mc 0) y) e Mc) ∧ WK lX46_reset Mc (GX46_reset (Mc.2.2 3 (Mc.2.2 190 mc 0) y) e Mc) ∧ WK lTw Mt (rsS Mt.2.2 m y (rsA Mt.2.2 m cr e y Mt)) := by
  have R0 := R
  have RR := relM_ram R
  obtain ⟨n92, np4⟩ := relM_m R
  obtain ⟨i67, i189, ilen, inp, i297, ⟨ow, Ow⟩, ⟨ow', Ow'⟩, H⟩ := R
  obtain ⟨OH, ORr, bl_, bh⟩ := owh_M R0 Ow'
  obtain ⟨p, a, fu, cf, rg, u, t, kp, fd, c1, f1, d1, w1, g, kn, fs, K, F, T, rt, tb, hp, hw, Gd, RP⟩ := H y hy
  rw [hp]
  have T0 := RR.1.1
  have W := RR.1.2.1
  have Tm := RR.2.1.1
  have W' := RR.2.1.2.1
  obtain ⟨Nc, F', T', ⟨a1, a2⟩, RP2, E, Gd2, kc, kt, br⟩ := P_reset RP Gd he
  have n190 := tN_190 T0.1 i67
  have op : ow p = y + 1 := by
    rw [← hp]
    exact own_row Ow W n190 rfl (sS_190 W i67) rfl rfl (by rw [hp]; exact RP.1.1.1) rfl
  have ga := gX46_reset p e Mc a1
  have kc' : Wk (SL lX46_reset) (Zo ow (fm_nx Mc) y) y (fm_nx Mc) Mc (GX46_reset p e Mc) := wX46_reset (SL lX46_reset) (Zo ow (fm_nx Mc) y) (fun _ h => h) fN p e Mc (own_wi Ow T0 W) (Or.inr (Or.inr op)) _ ga.1
  rw [a2] at kc' ⊢
  obtain ⟨⟨o1, o2⟩, ⟨o3, o4⟩, ⟨o5, o6⟩, o7, o8⟩ := OH y hy
  have o4' : ow' (Mt.2.2 3 (Mt.2.2 306 m 0) y) = y + 1 := by
    have hbh := (bh y hy).2.2.2
    exact own_row (i := y) Ow' W' (tN_306 Tm.1 n92) rfl (sS_306 W' n92) rfl rfl hbh rfl
  have b : BgT m cr np e Mt := ⟨Tm, n92, i297, np4, ⟨(relM_b R0).1.2.2.1, RR.2.1.2.2.1⟩, h313, bl_, bh⟩
  have kt' := tw_own b W' hy (own_wi (h := y) Ow' Tm W') (Or.inr (Or.inr o1)) (Or.inr (Or.inr o3)) (Or.inr (Or.inr o5)) (Or.inr (Or.inr o4')) (Or.inr (Or.inl (own_sh Ow' n92 rfl))) (Or.inr (Or.inl (own_sh Ow' RR.2.1.2.2.1 rfl)))
  have lc := wf_lt W (fm_ist rfl i67)
  have e190 : Nc.2.2 190 mc 0 = Mc.2.2 190 mc 0 := congrFun (kf (f := 190) kc rfl (dj_n (L := [190]) (by decide) 190 rfl) lc).2.2 0
  have r190 : Nc.2.2 3 (Mc.2.2 190 mc 0) = Mc.2.2 3 (Mc.2.2 190 mc 0) := (ka kc (sS_190 W i67) (wf_n0 W (fm_ist rfl n190)) (dj_n (L := [1190]) (by decide) 1190 rfl) (wf_lt W (fm_ist rfl n190))).2.2
  have R2 := M_set (e := 0) (B' := B) (Vv' := Vv + 1) R0 Ow Ow' kc kc' kt kt' (by decide) (by decide) (by decide) (by decide) br E (Nat.le_succ _)
    ⟨p, a, fu, cf, rg, u, t, kp, fd, c1, f1, d1, w1, g, kn, _, rgZ, F', T', rt, tb, by rw [e190, r190]; exact hp, rfl, Gd2, RP2⟩
  exact ⟨a1, R2, E, kc, kt⟩
end St2
