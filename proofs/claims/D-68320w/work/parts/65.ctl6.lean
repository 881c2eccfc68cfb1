/-! control registers: stages of writing on both sides; returns -/
set_option maxRecDepth 100000
def Stg (u d : Nat) (Mc Mt Nc Nt : FM) : Prop := V1 u d Nc Nt ∧ CW u Mc Nc ∧ TW d Mt Nt
section Sg
variable {u d : Nat} {Mc Mt Nc Nt : FM}
theorem stg_0 (v : V1 u d Mc Mt) : Stg u d Mc Mt Mc Mt := ⟨v, cw_r, tw_r⟩
theorem stg_w (S : StC u Mc) (h : Stg u d Mc Mt Nc Nt) {n : Nat} (hn : cN n) {s : Nat} (hs : s = tbl Mc u n) {H : Nat} (hH : H = Mt.2.2 361 d 0) (v : Int64) : Stg u d Mc Mt (fm_sL Nc 41 s 0 v) (fm_sL Nt 3 H n v) := by
  obtain ⟨h1, h2, h3⟩ := h
  have e1 : s = tbl Nc u n := by rw [hs]; unfold tbl; rw [h2.1]
  have e2 : H = Nt.2.2 361 d 0 := by rw [hH, h3.1]
  rw [e1, e2]
  exact ⟨v1_w (stc_c h2.1 S) h1 hn v, cw_t h2 (cw_w hn v), tw_t h3 (tw_w v)⟩
theorem stg_c37 (h : Stg u d Mc Mt Nc Nt) (m : Int32) : Stg u d Mc Mt (fm_sI Nc 37 u 0 m) Nt := ⟨v1_c h.1 rfl rfl rfl rfl, cw_t h.2.1 (cw_m m), h.2.2⟩
theorem stg_c38 (h : Stg u d Mc Mt Nc Nt) {f : Nat} (hf : f = 38 ∨ f = 39) (x : Int64) : Stg u d Mc Mt (fm_sL Nc f u 0 x) Nt := ⟨v1_c h.1 (funext fun b => funext fun i => rLf (by omega)) rfl rfl rfl, cw_t h.2.1 (cw_s hf x), h.2.2⟩
theorem stg_t358 (h : Stg u d Mc Mt Nc Nt) {f : Nat} (hf : f = 358 ∨ f = 360) (m : Int32) : Stg u d Mc Mt Nc (fm_sI Nt f d 0 m) := ⟨v1_c h.1 rfl rfl rfl rfl, h.2.1, tw_t h.2.2 (tw_m hf m)⟩
theorem stg_t364 (h : Stg u d Mc Mt Nc Nt) {f : Nat} (hf : f = 364 ∨ f = 365) (x : Int64) : Stg u d Mc Mt Nc (fm_sL Nt f d 0 x) := ⟨v1_c h.1 rfl rfl (funext fun b => funext fun i => rLf (by omega)) rfl, h.2.1, tw_t h.2.2 (tw_s hf x)⟩
theorem stg_at (h : Stg u d Mc Mt Nc Nt) {n : Nat} (hn : cN n) : Nc.2.1 41 (tbl Mc u n) 0 = ht Nt d n := by
  have := v1_at h.1 hn
  unfold tbl at this ⊢
  rw [h.2.1.1] at this
  exact this
/-- a bit of the status is put -/
theorem stg_put (S : StC u Mc) (h : Stg u d Mc Mt Nc Nt) {s : Nat} (hs : s = tbl Mc u 768) {b g : Int32} {c : Prop} (hg : g = bz c) (hb : ui b < 64) : Stg u d Mc Mt (GX78_put s b g Nc) (GX100_put d b g Nt) := by
  rw [X78_put' hg hb, X100_put]
  have e : Nc.2.1 41 s 0 = ht Nt d 768 := by rw [hs]; exact stg_at h cn_768
  rw [e]
  exact stg_w S h cn_768 hs (by rw [h.2.2.1]) _
theorem stg_put2 (S : StC u Mc) (h : Stg u d Mc Mt Nc Nt) {s : Nat} (hs : s = tbl Mc u 768) {b m : Int32} {k : Nat} (hm : mde m) (hb : ui b = k) (hk : k < 60) : Stg u d Mc Mt (GX78_putTwo s b m Nc) (GX100_put d (b + Int32.ofInt 1) (m / Int32.ofInt 2) (GX100_put d b (m - m / Int32.ofInt 2 * Int32.ofInt 2) Nt)) := by
  rw [X78_putTwo hm hb hk, X100_put2]
  have e : Nc.2.1 41 s 0 = ht Nt d 768 := by rw [hs]; exact stg_at h cn_768
  rw [e]
  exact stg_w S h cn_768 hs (by rw [h.2.2.1]) _
end Sg
theorem ht_put {d n : Nat} {b g : Int32} {M : FM} : ht (GX100_put d b g M) d n = if n = 768 then tp (ht M d 768) b g else ht M d n := by
  rw [X100_put]
  show (fm_sL M 3 (M.2.2 361 d 0) 768 _).2.1 3 (M.2.2 361 d 0) n = _
  rw [rL]
  by_cases h : n = 768
  · rw [if_pos ⟨rfl, rfl, h⟩, if_pos h]
  · rw [if_neg (fun z => h z.2.2), if_neg h]
theorem ht_I {d n f : Nat} {x : Int32} {M : FM} : ht (fm_sI M f d 0 x) d n = ht M d n := rfl
theorem put_R {s : Nat} {b g : Int32} {M : FM} : (GX78_put s b g M).2.2 = M.2.2 := by
  unfold GX78_put GX78_put_0 GX78_put_28
  rw [fi_if]
  split <;> rfl
theorem put_I {s : Nat} {b g : Int32} {M : FM} : (GX78_put s b g M).1 = M.1 := by
  unfold GX78_put GX78_put_0 GX78_put_28
  rw [fi_if]
  split <;> rfl
theorem bz_g {c : Prop} : fi (bz c = 0) (Int32.ofInt 0) (Int32.ofInt 1) = bz c := by
  by_cases h : c
  · rw [fi_neg (fun q => bz_0.mp q h), bz_t h]
  · rw [fi_pos (bz_0.mpr h), bz_f h]
section Bc
variable {u : Nat} {Mc : FM} {st pl : Nat}
/-- the component goes back to where the supervisor was called from, to where the machine was -/
noncomputable def cbS (u st : Nat) (x nx : Int64) (M : FM) : FM := GX78_put st (Int32.ofInt 17) (Int32.ofInt 0) (fm_sL (GX78_put st (Int32.ofInt 8) (Int32.ofInt 0) (fm_sI (GX78_put st (Int32.ofInt 5) (Int32.ofInt 1) (GX78_put st (Int32.ofInt 1) (bz (lb x 5 = true)) M)) 37 u 0 (bz (lb x 8 = true)))) 39 u 0 nx)
theorem lb_pp {x : Int64} {b1 b2 : Int32} {c1 c2 : Prop} {k1 k2 : Nat} (h1 : ui b1 % 64 = k1) (h2 : ui b2 % 64 = k2) (i : Nat) (hi : i < 64) (n1 : i ≠ k1) (n2 : i ≠ k2) : lb (tp (tp x b1 (bz c1)) b2 (bz c2)) i = lb x i := by
  have := Classical.propDecidable c1
  have := Classical.propDecidable c2
  rw [tp_b _ h2 i hi, if_neg n2, tp_b _ h1 i hi, if_neg n1]
theorem c_backS (e27 : Mc.2.2 27 u 0 = st) (e51 : Mc.2.2 51 (Mc.2.2 33 u 0) 0 = pl) (tp : Mc.2.2 0 pl 0 = 14) (hne : pl ≠ st) : GX74_back_48 u (GX74_backFromSupervisor u Mc) = (Int32.ofInt 1, cbS u st (Mc.2.1 41 st 0) (Mc.2.1 41 pl 0) Mc) := by
  have e8 : lb ((GX78_put st (Int32.ofInt 5) (Int32.ofInt 1) (GX78_put st (Int32.ofInt 1) (bz (lb (Mc.2.1 41 st 0) 5 = true)) Mc)).2.1 41 st 0) 8 = lb (Mc.2.1 41 st 0) 8 := by
    rw [X78_put' bz1 (by decide), X78_put (by decide), sL_at, sL_at]
    have h := lb_pp (x := Mc.2.1 41 st 0) (b1 := Int32.ofInt 1) (b2 := Int32.ofInt 5) (c1 := lb (Mc.2.1 41 st 0) 5 = true) (c2 := True) (k1 := 1) (k2 := 5) rfl rfl 8 (by decide) (by decide) (by decide)
    rw [bz_t (c := True) trivial] at h
    exact h
  have k43 : ∀ m : Int32, m ≠ Int32.ofInt 3 → GX74_back_48 u (GX74_backFromSupervisor_43 u u m (GX78_put st (Int32.ofInt 5) (Int32.ofInt 1) (GX78_put st (Int32.ofInt 1) (bz (lb (Mc.2.1 41 st 0) 5 = true)) Mc))) = (Int32.ofInt 1, GX78_put st (Int32.ofInt 17) (Int32.ofInt 0) (fm_sL (GX78_put st (Int32.ofInt 8) (Int32.ofInt 0) (fm_sI (GX78_put st (Int32.ofInt 5) (Int32.ofInt 1) (GX78_put st (Int32.ofInt 1) (bz (lb (Mc.2.1 41 st 0) 5 = true)) Mc)) 37 u 0 m)) 39 u 0 (Mc.2.1 41 pl 0))) := by
    intro m hm
    unfold GX74_backFromSupervisor_43
    dsimp only
    have r1 : ∀ g, (fm_sI (GX78_put st (Int32.ofInt 5) (Int32.ofInt 1) (GX78_put st (Int32.ofInt 1) g Mc)) 37 u 0 m).2.2 = Mc.2.2 := fun g => by rw [rI2, put_R, put_R]
    have r2 : ∀ g h, (GX78_put st (Int32.ofInt 8) h (fm_sI (GX78_put st (Int32.ofInt 5) (Int32.ofInt 1) (GX78_put st (Int32.ofInt 1) g Mc)) 37 u 0 m)).2.2 = Mc.2.2 := fun g h => by rw [put_R, r1]
    rw [r1, e27, r2, e51, d14s (by rw [r2]; exact tp)]
    dsimp only
    have e41 : (GX78_put st (Int32.ofInt 8) (Int32.ofInt 0) (fm_sI (GX78_put st (Int32.ofInt 5) (Int32.ofInt 1) (GX78_put st (Int32.ofInt 1) (bz (lb (Mc.2.1 41 st 0) 5 = true)) Mc)) 37 u 0 m)).2.1 41 pl 0 = Mc.2.1 41 pl 0 := by
      rw [X78_put' bz0 (by decide), rL, if_neg (fun z => hne z.2.1), rI1, X78_put' bz1 (by decide), rL, if_neg (fun z => hne z.2.1), X78_put (by decide), rL, if_neg (fun z => hne z.2.1)]
    rw [e41]
    unfold GX74_back_48 GX74_back_66
    have hm2 : ¬ (fm_sL (GX78_put st (Int32.ofInt 8) (Int32.ofInt 0) (fm_sI (GX78_put st (Int32.ofInt 5) (Int32.ofInt 1) (GX78_put st (Int32.ofInt 1) (bz (lb (Mc.2.1 41 st 0) 5 = true)) Mc)) 37 u 0 m)) 39 u 0 (Mc.2.1 41 pl 0)).1 37 u 0 = Int32.ofInt 3 := by
      rw [rL0, put_I, rI, if_pos ⟨rfl, rfl, rfl⟩]
      exact hm
    rw [fi_neg hm2]
    dsimp only
    rw [rL2, r2, e27]
  unfold GX74_backFromSupervisor GX74_backFromSupervisor_0
  dsimp only
  rw [e27, X78_has (b := Int32.ofInt 5) (k := 5) rfl (by decide)]
  dsimp only
  simp only [put_R, e27]
  rw [X78_has (b := Int32.ofInt 8) (k := 8) rfl (by decide), e8]
  dsimp only
  unfold cbS
  by_cases h : lb (Mc.2.1 41 st 0) 8 = true
  · rw [fi_neg (fun q => bz_0.mp q h), k43 _ (by decide), bz_t h]
  · rw [fi_pos (bz_0.mpr h), k43 _ (by decide), bz_f h]
theorem put2_R {s : Nat} {b g : Int32} {M : FM} : (GX78_putTwo s b g M).2.2 = M.2.2 := rfl
theorem put2_I {s : Nat} {b g : Int32} {M : FM} : (GX78_putTwo s b g M).1 = M.1 := rfl
noncomputable def cbM0 (u st : Nat) (x nx : Int64) (M : FM) : FM := fm_sL (GX78_putTwo st (Int32.ofInt 11) (Int32.ofInt 0) (fm_sI (GX78_put st (Int32.ofInt 7) (Int32.ofInt 1) (GX78_put st (Int32.ofInt 3) (bz (lb x 7 = true)) M)) 37 u 0 (tw x 11))) 39 u 0 nx
theorem c_backM (e27 : Mc.2.2 27 u 0 = st) (e51 : Mc.2.2 51 (Mc.2.2 32 u 0) 0 = pl) (tp : Mc.2.2 0 pl 0 = 14) (hne : pl ≠ st) : GX74_back_48 u (GX74_backFromMachine u Mc) = (Int32.ofInt 1, fi (tw (Mc.2.1 41 st 0) 11 = Int32.ofInt 3) (cbM0 u st (Mc.2.1 41 st 0) (Mc.2.1 41 pl 0) Mc) (GX78_put st (Int32.ofInt 17) (Int32.ofInt 0) (cbM0 u st (Mc.2.1 41 st 0) (Mc.2.1 41 pl 0) Mc))) := by
  have e11 : tw ((GX78_put st (Int32.ofInt 7) (Int32.ofInt 1) (GX78_put st (Int32.ofInt 3) (bz (lb (Mc.2.1 41 st 0) 7 = true)) Mc)).2.1 41 st 0) 11 = tw (Mc.2.1 41 st 0) 11 := by
    rw [X78_put' bz1 (by decide), X78_put (by decide), sL_at, sL_at]
    have h := fun j (hj : j = 11 ∨ j = 11 + 1) => lb_pp (x := Mc.2.1 41 st 0) (b1 := Int32.ofInt 3) (b2 := Int32.ofInt 7) (c1 := lb (Mc.2.1 41 st 0) 7 = true) (c2 := True) (k1 := 3) (k2 := 7) rfl rfl j (by omega) (by omega) (by omega)
    rw [bz_t (c := True) trivial] at h
    exact tw_c (h 11 (Or.inl rfl)) (h (11 + 1) (Or.inr rfl))
  have e41 : (GX78_putTwo st (Int32.ofInt 11) (Int32.ofInt 0) (fm_sI (GX78_put st (Int32.ofInt 7) (Int32.ofInt 1) (GX78_put st (Int32.ofInt 3) (bz (lb (Mc.2.1 41 st 0) 7 = true)) Mc)) 37 u 0 (tw (Mc.2.1 41 st 0) 11))).2.1 41 pl 0 = Mc.2.1 41 pl 0 := by
    rw [X78_putTwo (k := 11) (Or.inl rfl) rfl (by decide), rL, if_neg (fun z => hne z.2.1), rI1, X78_put' bz1 (by decide), rL, if_neg (fun z => hne z.2.1), X78_put (by decide), rL, if_neg (fun z => hne z.2.1)]
  have kM : GX74_backFromMachine u Mc = cbM0 u st (Mc.2.1 41 st 0) (Mc.2.1 41 pl 0) Mc := by
    unfold GX74_backFromMachine GX74_backFromMachine_0
    dsimp only
    rw [e27, X78_has (b := Int32.ofInt 7) (k := 7) rfl (by decide)]
    dsimp only
    simp only [put_R, e27]
    rw [X78_two (b := Int32.ofInt 11) (k := 11) rfl (by decide), e11]
    dsimp only
    simp only [put2_R, rI2, put_R, e27, e51]
    rw [d14s (by rw [put2_R, rI2, put_R, put_R]; exact tp)]
    dsimp only
    rw [e41]
    rfl
  rw [kM]
  unfold GX74_back_48 GX74_back_66
  have em : (cbM0 u st (Mc.2.1 41 st 0) (Mc.2.1 41 pl 0) Mc).1 37 u 0 = tw (Mc.2.1 41 st 0) 11 := by
    unfold cbM0
    rw [rL0, put2_I, rI, if_pos ⟨rfl, rfl, rfl⟩]
  have e27' : (cbM0 u st (Mc.2.1 41 st 0) (Mc.2.1 41 pl 0) Mc).2.2 27 u 0 = st := by
    unfold cbM0
    rw [rL2, put2_R, rI2, put_R, put_R]
    exact e27
  rw [em, e27']
  by_cases h : tw (Mc.2.1 41 st 0) 11 = Int32.ofInt 3
  · rw [fi_pos h, fi_pos h]
  · rw [fi_neg h, fi_neg h]
end Bc
section Bt
variable {d : Nat} {N : FM}
theorem tput_R {b g : Int32} {M : FM} : (GX100_put d b g M).2.2 = M.2.2 := rfl
theorem tput_I {b g : Int32} {M : FM} : (GX100_put d b g M).1 = M.1 := rfl
/-- the twin goes back -/
theorem t_backS {b : Int32} (hb : b = 0) (hh : ∀ n, ht N d n = N.2.1 3 (N.2.2 361 d 0) n) : GX100_back_55 d b (Int32.ofInt 1) N = (Int32.ofInt 1, fm_sL (GX100_put d (Int32.ofInt 17) (Int32.ofInt 0) (GX100_put d (Int32.ofInt 8) (Int32.ofInt 0) (fm_sI (GX100_put d (Int32.ofInt 5) (Int32.ofInt 1) (GX100_put d (Int32.ofInt 1) (bz (lb (ht N d 768) 5 = true)) N)) 360 d 0 (bz (lb (ht N d 768) 8 = true))))) 365 d 0 (ht N d 321)) := by
  have e8 : lb (ht (GX100_put d (Int32.ofInt 5) (Int32.ofInt 1) (GX100_put d (Int32.ofInt 1) (bz (lb (ht N d 768) 5 = true)) N)) d 768) 8 = lb (ht N d 768) 8 := by
    rw [ht_put, if_pos rfl, ht_put, if_pos rfl]
    have h := lb_pp (x := ht N d 768) (b1 := Int32.ofInt 1) (b2 := Int32.ofInt 5) (c1 := lb (ht N d 768) 5 = true) (c2 := True) (k1 := 1) (k2 := 5) rfl rfl 8 (by decide) (by decide) (by decide)
    rw [bz_t (c := True) trivial] at h
    exact h
  have e321 : ∀ m, ht (GX100_put d (Int32.ofInt 17) (Int32.ofInt 0) (GX100_put d (Int32.ofInt 8) (Int32.ofInt 0) (fm_sI (GX100_put d (Int32.ofInt 5) (Int32.ofInt 1) (GX100_put d (Int32.ofInt 1) (bz (lb (ht N d 768) 5 = true)) N)) 360 d 0 m))) d 321 = ht N d 321 := fun m => by
    rw [ht_put, if_neg (by decide), ht_put, if_neg (by decide), ht_I, ht_put, if_neg (by decide), ht_put, if_neg (by decide)]
  have n3 : ¬ Int32.ofInt 3 ≤ bz (lb (ht N d 768) 8 = true) := by
    by_cases h : lb (ht N d 768) 8 = true
    · rw [bz_t h]; decide
    · rw [bz_f h]; decide
  unfold GX100_back_55
  dsimp only
  rw [show Int32.ofInt 1 + Int32.ofInt 4 = Int32.ofInt 5 from rfl, X100_status (b := Int32.ofInt 5) (k := 5) rfl (by decide), fi_pos hb]
  dsimp only
  rw [X100_status (b := Int32.ofInt 8) (k := 8) rfl (by decide)]
  rw [show (GX100_put d (Int32.ofInt 5) (Int32.ofInt 1) (GX100_put d (Int32.ofInt 1) (bz (lb (N.2.1 3 (N.2.2 361 d 0) 768) 5 = true)) N)).2.1 3 ((GX100_put d (Int32.ofInt 5) (Int32.ofInt 1) (GX100_put d (Int32.ofInt 1) (bz (lb (N.2.1 3 (N.2.2 361 d 0) 768) 5 = true)) N)).2.2 361 d 0) 768 = ht (GX100_put d (Int32.ofInt 5) (Int32.ofInt 1) (GX100_put d (Int32.ofInt 1) (bz (lb (ht N d 768) 5 = true)) N)) d 768 from rfl, e8]
  dsimp only
  unfold GX100_back_94 GX100_back_125 GX100_back_140 GX100_back_158
  dsimp only
  rw [fi_pos hb]
  have hm : (GX100_put d (Int32.ofInt 8) (Int32.ofInt 0) (fm_sI (GX100_put d (Int32.ofInt 5) (Int32.ofInt 1) (GX100_put d (Int32.ofInt 1) (bz (lb (N.2.1 3 (N.2.2 361 d 0) 768) 5 = true)) N)) 360 d 0 (bz (lb (ht N d 768) 8 = true)))).1 360 d 0 = bz (lb (ht N d 768) 8 = true) := by
    rw [tput_I, rI, if_pos ⟨rfl, rfl, rfl⟩]
  rw [hm, fi_neg n3, fi_pos hb]
  refine Prod.ext rfl ?_
  show fm_sL _ 365 d 0 (ht _ d 321) = _
  rw [e321]
theorem t_backM {b : Int32} (hb : ¬ b = 0) (hm3 : mde (tw (ht N d 768) 11)) : GX100_back_55 d b (Int32.ofInt 3) N = (Int32.ofInt 1, fm_sL (fi (tw (ht N d 768) 11 = Int32.ofInt 3) (GX100_put d (Int32.ofInt 12) (Int32.ofInt 0) (GX100_put d (Int32.ofInt 11) (Int32.ofInt 0) (fm_sI (GX100_put d (Int32.ofInt 7) (Int32.ofInt 1) (GX100_put d (Int32.ofInt 3) (bz (lb (ht N d 768) 7 = true)) N)) 360 d 0 (tw (ht N d 768) 11)))) (GX100_put d (Int32.ofInt 17) (Int32.ofInt 0) (GX100_put d (Int32.ofInt 12) (Int32.ofInt 0) (GX100_put d (Int32.ofInt 11) (Int32.ofInt 0) (fm_sI (GX100_put d (Int32.ofInt 7) (Int32.ofInt 1) (GX100_put d (Int32.ofInt 3) (bz (lb (ht N d 768) 7 = true)) N)) 360 d 0 (tw (ht N d 768) 11)))))) 365 d 0 (ht N d 833)) := by
  have e11 : tw (ht (GX100_put d (Int32.ofInt 7) (Int32.ofInt 1) (GX100_put d (Int32.ofInt 3) (bz (lb (ht N d 768) 7 = true)) N)) d 768) 11 = tw (ht N d 768) 11 := by
    rw [ht_put, if_pos rfl, ht_put, if_pos rfl]
    have h := fun j (hj : j = 11 ∨ j = 11 + 1) => lb_pp (x := ht N d 768) (b1 := Int32.ofInt 3) (b2 := Int32.ofInt 7) (c1 := lb (ht N d 768) 7 = true) (c2 := True) (k1 := 3) (k2 := 7) rfl rfl j (by omega) (by omega) (by omega)
    rw [bz_t (c := True) trivial] at h
    exact tw_c (h 11 (Or.inl rfl)) (h (11 + 1) (Or.inr rfl))
  have e833 : ∀ m, ht (GX100_put d (Int32.ofInt 12) (Int32.ofInt 0) (GX100_put d (Int32.ofInt 11) (Int32.ofInt 0) (fm_sI (GX100_put d (Int32.ofInt 7) (Int32.ofInt 1) (GX100_put d (Int32.ofInt 3) (bz (lb (ht N d 768) 7 = true)) N)) 360 d 0 m))) d 833 = ht N d 833 := fun m => by
    rw [ht_put, if_neg (by decide), ht_put, if_neg (by decide), ht_I, ht_put, if_neg (by decide), ht_put, if_neg (by decide)]
  unfold GX100_back_55
  dsimp only
  rw [show Int32.ofInt 3 + Int32.ofInt 4 = Int32.ofInt 7 from rfl, X100_status (b := Int32.ofInt 7) (k := 7) rfl (by decide), fi_neg hb]
  dsimp only
  rw [X100_below]
  rw [show (GX100_put d (Int32.ofInt 7) (Int32.ofInt 1) (GX100_put d (Int32.ofInt 3) (bz (lb (N.2.1 3 (N.2.2 361 d 0) 768) 7 = true)) N)).2.1 3 ((GX100_put d (Int32.ofInt 7) (Int32.ofInt 1) (GX100_put d (Int32.ofInt 3) (bz (lb (N.2.1 3 (N.2.2 361 d 0) 768) 7 = true)) N)).2.2 361 d 0) 768 = ht (GX100_put d (Int32.ofInt 7) (Int32.ofInt 1) (GX100_put d (Int32.ofInt 3) (bz (lb (ht N d 768) 7 = true)) N)) d 768 from rfl, e11]
  dsimp only
  unfold GX100_back_94 GX100_back_125 GX100_back_140 GX100_back_158
  dsimp only
  rw [fi_neg hb]
  have hm : (GX100_put d (Int32.ofInt 12) (Int32.ofInt 0) (GX100_put d (Int32.ofInt 11) (Int32.ofInt 0) (fm_sI (GX100_put d (Int32.ofInt 7) (Int32.ofInt 1) (GX100_put d (Int32.ofInt 3) (bz (lb (N.2.1 3 (N.2.2 361 d 0) 768) 7 = true)) N)) 360 d 0 (tw (ht N d 768) 11)))).1 360 d 0 = tw (ht N d 768) 11 := by
    rw [tput_I, tput_I, rI, if_pos ⟨rfl, rfl, rfl⟩]
  rw [hm, fi_neg hb, fi_neg hb]
  by_cases h3 : tw (ht N d 768) 11 = Int32.ofInt 3
  · rw [fi_pos ((mde3 hm3).mpr h3), fi_pos h3]
    refine Prod.ext rfl ?_
    show fm_sL _ 365 d 0 (ht _ d 833) = _
    rw [e833]
  · rw [fi_neg (fun z => h3 ((mde3 hm3).mp z)), fi_neg h3]
    refine Prod.ext rfl ?_
    show fm_sL _ 365 d 0 (ht _ d 833) = _
    rw [ht_put, if_neg (by decide), e833]
end Bt
section Bk
variable {u d : Nat} {k : Int32} {Mc Mt : FM}
/-- whether a return may be -/
def mayB (m b : Int32) (x : Int64) : Prop := m = Int32.ofInt 3 ∨ (b = 0 ∧ m = Int32.ofInt 1 ∧ ¬ lb x 22 = true)
theorem tw_put {x : Int64} {b : Int32} {c : Prop} {kb : Nat} (hb : ui b % 64 = kb) (h1 : kb ≠ 11) (h2 : kb ≠ 12) : tw (tp x b (bz c)) 11 = tw x 11 := by
  have := Classical.propDecidable c
  exact tw_c (by rw [tp_b _ hb 11 (by decide), if_neg (by omega)]) (by rw [tp_b _ hb 12 (by decide), if_neg (by omega)])
theorem tw_mde {x : Int64} (h : tw x 11 ≠ Int32.ofInt 2) : mde (tw x 11) := by
  rw [tw_is] at h ⊢
  by_cases a : lb x 11 = true <;> by_cases b : lb x (11 + 1) = true
  · rw [fi_pos a, fi_pos b]; exact Or.inr (Or.inr rfl)
  · rw [fi_pos a, fi_neg b]; exact Or.inr (Or.inl rfl)
  · rw [fi_neg a, fi_pos b] at h; exact absurd rfl h
  · rw [fi_neg a, fi_neg b]; exact Or.inl rfl
theorem rel_back (R : RelC u d k Mc Mt) {b : Int32} (hb01 : b = 0 ∨ b = 1) :
    HX100_back d b Mt ∧ (GX74_back u b Mc).1 = (GX100_back d b Mt).1 ∧ RelC u d k (GX74_back u b Mc).2 (GX100_back d b Mt).2 ∧
    ((GX100_back d b Mt).1 = Int32.ofInt 1 → (GX74_back u b Mc).2.2.1 39 u 0 = (GX100_back d b Mt).2.2.1 365 d 0) ∧ ((GX100_back d b Mt).1 = Int32.ofInt 0 ∨ (GX100_back d b Mt).1 = Int32.ofInt 1) := by
  have R0 := R
  obtain ⟨⟨Tc, nu, S, K⟩, ⟨Tt, nd, Z, I1, I2, I3, I4, I5⟩, v1, vl, ⟨vm, hm⟩, vc⟩ := R
  have S0 := S
  obtain ⟨s1, s2, ⟨e27, e28, e29, e30, e31, e34, e35⟩, ⟨b49, b54, b50, b51, b52, b53⟩, ⟨c49, c54, c50, c51, c52, c53⟩, -⟩ := S0
  have hin : ∀ {N : FM} {j : Int32}, N.2.2 = Mt.2.2 → ui j < 4096 → fm_in N (N.2.2 361 d 0) j = true := fun {N j} e hj => by
    unfold fm_in
    rw [e]
    exact h361 Tt nd hj
  have hH : HX100_back d b Mt := by
    have q125 : ∀ {N : FM}, N.2.2 = Mt.2.2 → HX100_back_125 d b N := fun {N} e => ⟨fun _ => ⟨fun _ => ⟨hin e (by decide), trivial⟩, fun _ => ⟨hin e (by decide), trivial⟩⟩, fun _ => ⟨fun _ => ⟨hin (N := GX100_put d (Int32.ofInt 17) (Int32.ofInt 0) N) e (by decide), trivial⟩, fun _ => ⟨hin (N := GX100_put d (Int32.ofInt 17) (Int32.ofInt 0) N) e (by decide), trivial⟩⟩⟩
    have q55 : ∀ s {N : FM}, N.2.2 = Mt.2.2 → HX100_back_55 d b s N := fun s {N} e => ⟨fun _ => ⟨fun _ => q125 e, fun _ => q125 e⟩, fun _ => ⟨fun _ => q125 e, fun _ => q125 e⟩⟩
    have q39 : ∀ s {N : FM}, N.2.2 = Mt.2.2 → HX100_back_39 d b s N := fun s {N} e => ⟨fun _ => trivial, fun _ => ⟨fun _ => q55 _ e, fun _ => q55 _ e⟩⟩
    exact ⟨fun _ => q39 _ rfl, fun _ => ⟨fun _ => ⟨fun _ => ⟨fun _ => q39 _ rfl, fun _ => q39 _ rfl⟩, fun _ => q39 _ rfl⟩, fun _ => q39 _ rfl⟩⟩
  have Gc := (gX74_back u b Mc Tc nu).2
  have Gt := (gX100_back d b Mt Tt nd hH).2
  have st0 : Stg u d Mc Mt Mc (fm_sI Mt 358 d 0 (Int32.ofInt 0)) := stg_t358 (stg_0 v1) (Or.inl rfl) _
  have e768 : Mc.2.1 41 (tbl Mc u 768) 0 = ht Mt d 768 := v1_at v1 cn_768
  have cmay : GX74_back u b Mc = fi (mayB (Mt.1 360 d 0) b (ht Mt d 768)) (GX74_back_33 u b Mc) (Int32.ofInt 0, Mc) := by
    unfold GX74_back GX74_back_0 GX74_back_31
    rw [vm, e27]
    by_cases h3 : Mt.1 360 d 0 = Int32.ofInt 3
    · rw [fi_pos h3, fi_pos (show mayB _ _ _ from Or.inl h3)]
    · rw [fi_neg h3]
      by_cases hb : b = 0
      · rw [fi_pos hb]
        by_cases h0 : Mt.1 360 d 0 = 0
        · rw [fi_pos h0, fi_neg (show ¬ mayB _ _ _ from fun z => z.elim h3 (fun y => by rw [h0] at y; exact absurd y.2.1 (by decide)))]
        · rw [fi_neg h0]
          have h1 : Mt.1 360 d 0 = Int32.ofInt 1 := by
            rcases hm with q | q | q
            · exact absurd q h0
            · exact q
            · exact absurd q h3
          dsimp only
          rw [X78_has (k := 22) rfl (by decide), e768]
          dsimp only
          by_cases q : lb (ht Mt d 768) 22 = true
          · rw [fi_neg (fun z => bz_0.mp z q), fi_neg (show ¬ mayB _ _ _ from fun z => z.elim h3 (fun y => y.2.2 q))]
          · rw [fi_pos (bz_0.mpr q), fi_pos (show mayB _ _ _ from Or.inr ⟨hb, h1, q⟩)]
      · rw [fi_neg hb, fi_neg (show ¬ mayB _ _ _ from fun z => z.elim h3 (fun y => hb y.1))]
  have tmay : GX100_back d b Mt = fi (mayB (Mt.1 360 d 0) b (ht Mt d 768)) (GX100_back_39 d b (Int32.ofInt 1) (fm_sI Mt 358 d 0 (Int32.ofInt 0))) (GX100_back_39 d b (Int32.ofInt 0) (fm_sI Mt 358 d 0 (Int32.ofInt 0))) := by
    unfold GX100_back GX100_back_0 GX100_back_34 GX100_back_38
    dsimp only
    rw [show (fm_sI Mt 358 d 0 (Int32.ofInt 0)).1 360 d 0 = Mt.1 360 d 0 from rfl]
    by_cases h3 : Mt.1 360 d 0 = Int32.ofInt 3
    · rw [fi_pos h3, fi_pos (show mayB _ _ _ from Or.inl h3)]
    · rw [fi_neg h3]
      by_cases hb : b = 0
      · rw [fi_pos hb]
        by_cases h1 : Mt.1 360 d 0 = Int32.ofInt 1
        · rw [fi_pos h1, X100_status (k := 22) rfl (by decide)]
          dsimp only
          rw [show (fm_sI Mt 358 d 0 (Int32.ofInt 0)).2.1 3 ((fm_sI Mt 358 d 0 (Int32.ofInt 0)).2.2 361 d 0) 768 = ht Mt d 768 from rfl]
          by_cases q : lb (ht Mt d 768) 22 = true
          · rw [fi_neg (fun z => bz_0.mp z q), fi_neg (show ¬ mayB _ _ _ from fun z => z.elim h3 (fun y => y.2.2 q))]
          · rw [fi_pos (bz_0.mpr q), fi_pos (show mayB _ _ _ from Or.inr ⟨hb, h1, q⟩)]
        · rw [fi_neg h1, fi_neg (show ¬ mayB _ _ _ from fun z => z.elim h3 (fun y => h1 y.2.1))]
      · rw [fi_neg hb, fi_neg (show ¬ mayB _ _ _ from fun z => z.elim h3 (fun y => hb y.1))]
  refine ⟨hH, ?_⟩
  rw [cmay] at Gc ⊢
  rw [tmay] at Gt ⊢
  by_cases hmay : mayB (Mt.1 360 d 0) b (ht Mt d 768)
  · rw [fi_pos hmay] at Gc Gt ⊢
    rw [fi_pos hmay]
    unfold GX74_back_33 GX100_back_39 at *
    rw [fi_neg (c := Int32.ofInt 1 = 0) (by decide)] at Gt ⊢
    rcases hb01 with hb | hb
    · -- from the supervisor
      rw [fi_pos hb] at Gc Gt ⊢
      rw [fi_pos hb]
      have ne : tbl Mc u 321 ≠ tbl Mc u 768 := fun z => absurd (s2 (321, 14, Int64.ofInt (-2)) (by decide) (768, 16, Int64.ofInt 8288682) (by decide) z) (by decide)
      have e321 : Mc.2.1 41 (tbl Mc u 321) 0 = ht Mt d 321 := v1_at v1 (cn_of rfl)
      rw [c_backS e27 c51 (tg_of s1 rfl) ne, e768, e321] at Gc ⊢
      rw [t_backS hb (fun _ => rfl), ht_I, ht_I] at Gt ⊢
      have q1 := stg_put S st0 rfl (b := Int32.ofInt 1) (g := bz (lb (ht Mt d 768) 5 = true)) rfl (by decide)
      have q2 := stg_put S q1 rfl (b := Int32.ofInt 5) bz1 (by decide)
      have q3 := stg_t358 (stg_c37 q2 (bz (lb (ht Mt d 768) 8 = true))) (Or.inr rfl) (bz (lb (ht Mt d 768) 8 = true))
      have q4 := stg_put S q3 rfl (b := Int32.ofInt 8) bz0 (by decide)
      have q5 := stg_c38 q4 (Or.inr rfl) (ht Mt d 321)
      have q6 := stg_put S q5 rfl (b := Int32.ofInt 17) bz0 (by decide)
      have q7 := stg_t364 q6 (Or.inr rfl) (ht Mt d 321)
      have hx : ∀ n, ht (fm_sL (GX100_put d (Int32.ofInt 17) (Int32.ofInt 0) (GX100_put d (Int32.ofInt 8) (Int32.ofInt 0) (fm_sI (GX100_put d (Int32.ofInt 5) (Int32.ofInt 1) (GX100_put d (Int32.ofInt 1) (bz (lb (ht Mt d 768) 5 = true)) (fm_sI Mt 358 d 0 (Int32.ofInt 0)))) 360 d 0 (bz (lb (ht Mt d 768) 8 = true))))) 365 d 0 (ht Mt d 321)) d n = if n = 768 then tp (tp (tp (tp (ht Mt d 768) (Int32.ofInt 1) (bz (lb (ht Mt d 768) 5 = true))) (Int32.ofInt 5) (Int32.ofInt 1)) (Int32.ofInt 8) (Int32.ofInt 0)) (Int32.ofInt 17) (Int32.ofInt 0) else ht Mt d n := fun n => by
        refine (rLf (f := 365) (by decide)).trans ?_
        show ht (GX100_put d (Int32.ofInt 17) _ _) d n = _
        by_cases h : n = 768
        · rw [if_pos h, h, ht_put, if_pos rfl, ht_put, if_pos rfl, ht_I, ht_put, if_pos rfl, ht_put, if_pos rfl, ht_I]
        · rw [if_neg h, ht_put, if_neg h, ht_put, if_neg h, ht_I, ht_put, if_neg h, ht_put, if_neg h, ht_I]
      refine ⟨rfl, relC_of R0 q7.2.1 q7.2.2 q7.1 ⟨?_, ?_⟩ ⟨?_, ?_, ?_, ?_, ?_⟩ Gc.1 Gt.1 (fun n hn => ?_), fun _ => ?_, Or.inr rfl⟩
      · show (cbS _ _ _ _ _).1 37 u 0 = _
        unfold cbS
        rw [put_I, rL0, put_I, rI, if_pos ⟨rfl, rfl, rfl⟩, rL0, tput_I, tput_I, rI, if_pos ⟨rfl, rfl, rfl⟩]
      · dsimp only
        rw [rL0, tput_I, tput_I, rI, if_pos ⟨rfl, rfl, rfl⟩]
        by_cases h : lb (ht Mt d 768) 8 = true
        · rw [bz_t h]; exact Or.inr (Or.inl rfl)
        · rw [bz_f h]; exact Or.inl rfl
      · rw [hx, if_pos rfl, bz0, ← bz0, show tp (tp (tp (tp (ht Mt d 768) (Int32.ofInt 1) (bz (lb (ht Mt d 768) 5 = true))) (Int32.ofInt 5) (Int32.ofInt 1)) (Int32.ofInt 8) (Int32.ofInt 0)) (Int32.ofInt 17) (Int32.ofInt 0) = tp (tp (tp (tp (ht Mt d 768) (Int32.ofInt 1) (bz (lb (ht Mt d 768) 5 = true))) (Int32.ofInt 5) (bz True)) (Int32.ofInt 8) (bz False)) (Int32.ofInt 17) (bz False) from by rw [bz_t (c := True) trivial, bz_f (c := False) id], tw_put (kb := 17) rfl (by decide) (by decide), tw_put (kb := 8) rfl (by decide) (by decide), tw_put (kb := 5) rfl (by decide) (by decide), tw_put (kb := 1) rfl (by decide) (by decide)]
        exact I1
      · rw [hx, if_neg (by decide)]
        exact I2
      · rw [hx, if_neg (by decide)]
        exact I3
      · rw [hx, if_neg (by decide)]
        exact I4
      · rw [hx, if_pos rfl]
        exact mkS_tpv (k := 17) bz0 (mkS_tpv (k := 8) bz0 (mkS_tpv (k := 5) bz1 (mkS_tp (k := 1) I5 rfl (by decide)) rfl (by decide)) rfl (by decide)) rfl (by decide)
      · rw [hx, if_neg ((show ∀ n ∈ [3857, 3858, 3859, 3861], n ≠ 768 by decide) n hn)]
      · show (cbS _ _ _ _ _).2.1 39 u 0 = _
        unfold cbS
        rw [X78_put' bz0 (by decide), rLf (by decide), sL_at, sL_at]
    · have hb0 : ¬ b = 0 := by rw [hb]; decide
      rw [fi_neg hb0] at Gc Gt ⊢
      rw [fi_neg hb0]
      have ne : tbl Mc u 833 ≠ tbl Mc u 768 := fun z => absurd (s2 (833, 14, Int64.ofInt (-2)) (by decide) (768, 16, Int64.ofInt 8288682) (by decide) z) (by decide)
      have e833 : Mc.2.1 41 (tbl Mc u 833) 0 = ht Mt d 833 := v1_at v1 (cn_of rfl)
      rw [c_backM e27 b51 (tg_of s1 rfl) ne, e768, e833] at Gc ⊢
      rw [t_backM hb0 (by rw [ht_I]; exact tw_mde I1), ht_I, ht_I] at Gt ⊢
      have q1 := stg_put S st0 rfl (b := Int32.ofInt 3) (g := bz (lb (ht Mt d 768) 7 = true)) rfl (by decide)
      have q2 := stg_put S q1 rfl (b := Int32.ofInt 7) bz1 (by decide)
      have q3 := stg_t358 (stg_c37 q2 (tw (ht Mt d 768) 11)) (Or.inr rfl) (tw (ht Mt d 768) 11)
      have q4 := stg_put2 S q3 rfl (b := Int32.ofInt 11) (m := Int32.ofInt 0) (k := 11) (Or.inl rfl) rfl (by decide)
      have q5 := stg_c38 q4 (Or.inr rfl) (ht Mt d 833)
      have hy : ∀ n, ht (GX100_put d (Int32.ofInt 12) (Int32.ofInt 0) (GX100_put d (Int32.ofInt 11) (Int32.ofInt 0) (fm_sI (GX100_put d (Int32.ofInt 7) (Int32.ofInt 1) (GX100_put d (Int32.ofInt 3) (bz (lb (ht Mt d 768) 7 = true)) (fm_sI Mt 358 d 0 (Int32.ofInt 0)))) 360 d 0 (tw (ht Mt d 768) 11)))) d n = if n = 768 then tp2 (tp (tp (ht Mt d 768) (Int32.ofInt 3) (bz (lb (ht Mt d 768) 7 = true))) (Int32.ofInt 7) (Int32.ofInt 1)) (Int32.ofInt 11) (Int32.ofInt 0) else ht Mt d n := fun n => by
        by_cases h : n = 768
        · rw [if_pos h, h, ht_put, if_pos rfl, ht_put, if_pos rfl, ht_I, ht_put, if_pos rfl, ht_put, if_pos rfl, ht_I]
          rfl
        · rw [if_neg h, ht_put, if_neg h, ht_put, if_neg h, ht_I, ht_put, if_neg h, ht_put, if_neg h, ht_I]
      have z0 : ∀ x, tw (tp2 x (Int32.ofInt 11) (Int32.ofInt 0)) 11 = Int32.ofInt 0 := fun x => by
        have b1 : lb (tp2 x (Int32.ofInt 11) (Int32.ofInt 0)) 11 = false := by
          rw [tp2_b (k := 11) (Or.inl rfl) rfl (by decide) 11 (by decide), if_pos rfl]
          exact decide_eq_false (fun q => q rfl)
        have b2 : lb (tp2 x (Int32.ofInt 11) (Int32.ofInt 0)) (11 + 1) = false := by
          rw [tp2_b (k := 11) (Or.inl rfl) rfl (by decide) (11 + 1) (by decide), if_neg (by decide), if_pos rfl]
          exact decide_eq_false (by decide)
        rw [tw_is, b1, b2, fi_neg (by decide), fi_neg (by decide)]
      by_cases h3 : tw (ht Mt d 768) 11 = Int32.ofInt 3
      · rw [fi_pos h3] at Gc Gt ⊢
        rw [fi_pos h3]
        have q7 := stg_t364 q5 (Or.inr rfl) (ht Mt d 833)
        have hx : ∀ n, ht (fm_sL (GX100_put d (Int32.ofInt 12) (Int32.ofInt 0) (GX100_put d (Int32.ofInt 11) (Int32.ofInt 0) (fm_sI (GX100_put d (Int32.ofInt 7) (Int32.ofInt 1) (GX100_put d (Int32.ofInt 3) (bz (lb (ht Mt d 768) 7 = true)) (fm_sI Mt 358 d 0 (Int32.ofInt 0)))) 360 d 0 (tw (ht Mt d 768) 11)))) 365 d 0 (ht Mt d 833)) d n = if n = 768 then tp2 (tp (tp (ht Mt d 768) (Int32.ofInt 3) (bz (lb (ht Mt d 768) 7 = true))) (Int32.ofInt 7) (Int32.ofInt 1)) (Int32.ofInt 11) (Int32.ofInt 0) else ht Mt d n := fun n => (rLf (f := 365) (by decide)).trans (hy n)
        refine ⟨rfl, relC_of R0 q7.2.1 q7.2.2 q7.1 ⟨?_, ?_⟩ ⟨?_, ?_, ?_, ?_, ?_⟩ Gc.1 Gt.1 (fun n hn => ?_), fun _ => ?_, Or.inr rfl⟩
        · show (cbM0 _ _ _ _ _).1 37 u 0 = _
          unfold cbM0
          rw [rL0, put2_I, rI, if_pos ⟨rfl, rfl, rfl⟩, rL0, tput_I, tput_I, rI, if_pos ⟨rfl, rfl, rfl⟩]
        · dsimp only
          rw [rL0, tput_I, tput_I, rI, if_pos ⟨rfl, rfl, rfl⟩]
          exact tw_mde I1
        · rw [hx, if_pos rfl, z0]
          decide
        · rw [hx, if_neg (by decide)]
          exact I2
        · rw [hx, if_neg (by decide)]
          exact I3
        · rw [hx, if_neg (by decide)]
          exact I4
        · rw [hx, if_pos rfl]
          exact mkS_tp2 (k := 11) (mkS_tpv (k := 7) bz1 (mkS_tp (k := 3) I5 rfl (by decide)) rfl (by decide)) (Or.inl rfl) rfl (by decide) (by decide) (by decide)
        · rw [hx, if_neg ((show ∀ n ∈ [3857, 3858, 3859, 3861], n ≠ 768 by decide) n hn)]
        · show (cbM0 _ _ _ _ _).2.1 39 u 0 = _
          unfold cbM0
          rw [sL_at, sL_at]
      · rw [fi_neg h3] at Gc Gt ⊢
        rw [fi_neg h3]
        have q6 := stg_put S q5 rfl (b := Int32.ofInt 17) bz0 (by decide)
        have q7 := stg_t364 q6 (Or.inr rfl) (ht Mt d 833)
        have hx : ∀ n, ht (fm_sL (GX100_put d (Int32.ofInt 17) (Int32.ofInt 0) (GX100_put d (Int32.ofInt 12) (Int32.ofInt 0) (GX100_put d (Int32.ofInt 11) (Int32.ofInt 0) (fm_sI (GX100_put d (Int32.ofInt 7) (Int32.ofInt 1) (GX100_put d (Int32.ofInt 3) (bz (lb (ht Mt d 768) 7 = true)) (fm_sI Mt 358 d 0 (Int32.ofInt 0)))) 360 d 0 (tw (ht Mt d 768) 11))))) 365 d 0 (ht Mt d 833)) d n = if n = 768 then tp (tp2 (tp (tp (ht Mt d 768) (Int32.ofInt 3) (bz (lb (ht Mt d 768) 7 = true))) (Int32.ofInt 7) (Int32.ofInt 1)) (Int32.ofInt 11) (Int32.ofInt 0)) (Int32.ofInt 17) (Int32.ofInt 0) else ht Mt d n := fun n => by
          refine (rLf (f := 365) (by decide)).trans ?_
          show ht (GX100_put d (Int32.ofInt 17) _ _) d n = _
          by_cases h : n = 768
          · rw [if_pos h, h, ht_put, if_pos rfl, hy, if_pos rfl]
          · rw [if_neg h, ht_put, if_neg h, hy, if_neg h]
        refine ⟨rfl, relC_of R0 q7.2.1 q7.2.2 q7.1 ⟨?_, ?_⟩ ⟨?_, ?_, ?_, ?_, ?_⟩ Gc.1 Gt.1 (fun n hn => ?_), fun _ => ?_, Or.inr rfl⟩
        · show (GX78_put _ _ _ (cbM0 _ _ _ _ _)).1 37 u 0 = _
          unfold cbM0
          rw [put_I, rL0, put2_I, rI, if_pos ⟨rfl, rfl, rfl⟩, rL0, tput_I, tput_I, tput_I, rI, if_pos ⟨rfl, rfl, rfl⟩]
        · dsimp only
          rw [rL0, tput_I, tput_I, tput_I, rI, if_pos ⟨rfl, rfl, rfl⟩]
          exact tw_mde I1
        · rw [hx, if_pos rfl, show ∀ y, tp y (Int32.ofInt 17) (Int32.ofInt 0) = tp y (Int32.ofInt 17) (bz False) from fun y => by rw [bz_f (c := False) id], tw_put (kb := 17) rfl (by decide) (by decide), z0]
          decide
        · rw [hx, if_neg (by decide)]
          exact I2
        · rw [hx, if_neg (by decide)]
          exact I3
        · rw [hx, if_neg (by decide)]
          exact I4
        · rw [hx, if_pos rfl]
          exact mkS_tpv (k := 17) bz0 (mkS_tp2 (k := 11) (mkS_tpv (k := 7) bz1 (mkS_tp (k := 3) I5 rfl (by decide)) rfl (by decide)) (Or.inl rfl) rfl (by decide) (by decide) (by decide)) rfl (by decide)
        · rw [hx, if_neg ((show ∀ n ∈ [3857, 3858, 3859, 3861], n ≠ 768 by decide) n hn)]
        · show (GX78_put _ _ _ (cbM0 _ _ _ _ _)).2.1 39 u 0 = _
          unfold cbM0
          rw [X78_put' bz0 (by decide), rLf (by decide), sL_at, sL_at]
  · rw [fi_neg hmay] at Gc Gt ⊢
    rw [fi_neg hmay]
    unfold GX100_back_39 at *
    rw [fi_pos (c := Int32.ofInt 0 = 0) rfl] at Gt ⊢
    refine ⟨rfl, ?_, fun q => absurd (show Int32.ofInt 0 = Int32.ofInt 1 from q) (by decide), Or.inl rfl⟩
    exact relC_of R0 cw_r st0.2.2 st0.1 ⟨vm, hm⟩ ⟨I1, I2, I3, I4, I5⟩ Tc Gt.1 (fun n hn => rfl)
end Bk
