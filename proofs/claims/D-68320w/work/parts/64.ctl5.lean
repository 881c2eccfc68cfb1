/-! control registers: both trap alike -/
set_option maxRecDepth 100000
section Tq
variable {u d : Nat} {k : Int32} {Mc Mt : FM}
theorem ttM_h {P C V md : Nat} {i c : Int32} {v p b s : Int64} (n : Nat) : ht (ttM d P C V md i c v p b s Mt) d n = if n = 768 then s else if n = V then v else if n = C then tld i c else if n = P then p &&& Int64.ofInt (-2) else ht Mt d n := by
  have e : ∀ (M : FM) (a : Nat) (x : Int64), (fm_sL M 3 (Mt.2.2 361 d 0) a x).2.1 3 (Mt.2.2 361 d 0) n = if n = a then x else M.2.1 3 (Mt.2.2 361 d 0) n := fun M a x => by
    rw [rL]
    by_cases h : n = a
    · rw [if_pos ⟨rfl, rfl, h⟩, if_pos h]
    · rw [if_neg (fun z => h z.2.2), if_neg h]
  show (fm_sL (fm_sI (fm_sL (fm_sL (fm_sL (fm_sL (fm_sI Mt 358 d 0 (Int32.ofInt 0)) 3 (Mt.2.2 361 d 0) P (p &&& Int64.ofInt (-2))) 3 (Mt.2.2 361 d 0) C (tld i c)) 3 (Mt.2.2 361 d 0) V v) 3 (Mt.2.2 361 d 0) 768 s) 360 d 0 (nI md)) 365 d 0 b).2.1 3 (Mt.2.2 361 d 0) n = _
  rw [rLf (by decide), rI1, e, e, e, e, rI1]
theorem tw_c {x y : Int64} {k : Nat} (h1 : lb x k = lb y k) (h2 : lb x (k + 1) = lb y (k + 1)) : tw x k = tw y k := by
  unfold tw
  rw [h1, h2]
theorem trM_t (x : Int64) {m : Int32} (h : mde m) : tw (trM x m) 11 ≠ Int32.ofInt 2 := by
  have b1 : lb (trM x m) 11 = decide (m ≠ Int32.ofInt 0) := by
    unfold trM
    rw [tp_b (c := False) _ (k := 3) rfl 11 (by decide), if_neg (by decide), tp_b _ (k := 7) rfl 11 (by decide), if_neg (by decide), tp2_b h (k := 11) rfl (by decide) 11 (by decide), if_pos rfl]
  have b2 : lb (trM x m) 12 = decide (m = Int32.ofInt 3) := by
    unfold trM
    rw [tp_b (c := False) _ (k := 3) rfl 12 (by decide), if_neg (by decide), tp_b _ (k := 7) rfl 12 (by decide), if_neg (by decide), tp2_b h (k := 11) rfl (by decide) 12 (by decide), if_neg (by decide), if_pos rfl]
  rw [tw_is, b1, b2]
  rcases h with rfl | rfl | rfl <;> simp (decide := true) only [fi_if, if_true, if_false]
theorem trS_t {x : Int64} {m : Int32} (h : tw x 11 ≠ Int32.ofInt 2) : tw (trS x m) 11 ≠ Int32.ofInt 2 := by
  have b : ∀ j, j = 11 ∨ j = 12 → lb (trS x m) j = lb x j := by
    intro j hj
    unfold trS
    rw [tp_b (c := False) _ (k := 1) rfl j (by omega), if_neg (by omega), tp_b _ (k := 5) rfl j (by omega), if_neg (by omega)]
    have := Classical.propDecidable (m = Int32.ofInt 1)
    rw [tp_b _ (k := 8) rfl j (by omega), if_neg (by omega)]
  rw [tw_c (b 11 (Or.inl rfl)) (b 12 (Or.inr rfl))]
  exact h
theorem v1_bank (S : StC u Mc) (h : V1 u d Mc Mt) {P C V md : Nat} (nP : cN P) (nC : cN C) (nV : cN V) (i c : Int32) (v p b b' s : Int64) : V1 u d (ctM u (tbl Mc u P) (tbl Mc u C) (tbl Mc u V) (tbl Mc u 768) md i c v p b s Mc) (ttM d P C V md i c v p b' s Mt) := by
  have h0 : V1 u d Mc (fm_sI Mt 358 d 0 (Int32.ofInt 0)) := v1_c h rfl rfl rfl rfl
  have h1 := v1_w S h0 nP (p &&& Int64.ofInt (-2))
  have h2 := v1_w (Mc := fm_sL Mc 41 (tbl Mc u P) 0 (p &&& Int64.ofInt (-2))) (stc_c rfl S) h1 nC (tld i c)
  have h3 := v1_w (Mc := fm_sL (fm_sL Mc 41 (tbl Mc u P) 0 (p &&& Int64.ofInt (-2))) 41 (tbl Mc u C) 0 (tld i c)) (stc_c rfl S) h2 nV v
  have h4 : V1 u d (fm_sL (fm_sL (fm_sL (fm_sL Mc 41 (tbl Mc u P) 0 (p &&& Int64.ofInt (-2))) 41 (tbl Mc u C) 0 (tld i c)) 41 (tbl Mc u V) 0 v) 39 u 0 b) (fm_sL (fm_sL (fm_sL (fm_sI Mt 358 d 0 (Int32.ofInt 0)) 3 (Mt.2.2 361 d 0) P (p &&& Int64.ofInt (-2))) 3 (Mt.2.2 361 d 0) C (tld i c)) 3 (Mt.2.2 361 d 0) V v) :=
    v1_c h3 (funext fun b => funext fun i => rLf (by decide)) rfl rfl rfl
  have h5 := v1_w (Mc := fm_sL (fm_sL (fm_sL (fm_sL Mc 41 (tbl Mc u P) 0 (p &&& Int64.ofInt (-2))) 41 (tbl Mc u C) 0 (tld i c)) 41 (tbl Mc u V) 0 v) 39 u 0 b) (stc_c rfl S) h4 cn_768 s
  exact v1_c h5 rfl rfl (funext fun b => funext fun i => rLf (f := 365) (by decide)) rfl
theorem cw_bank {P C V md : Nat} (nP : cN P) (nC : cN C) (nV : cN V) (i c : Int32) (v p b s : Int64) : CW u Mc (ctM u (tbl Mc u P) (tbl Mc u C) (tbl Mc u V) (tbl Mc u 768) md i c v p b s Mc) := by
  have h1 := cw_w (u := u) (M := Mc) nP (p &&& Int64.ofInt (-2))
  have h2 := cw_t h1 (cw_w nC (tld i c))
  have h3 := cw_t h2 (cw_w nV v)
  have h4 := cw_t h3 (cw_s (f := 39) (Or.inr rfl) b)
  have h5 := cw_t h4 (cw_w cn_768 s)
  exact cw_t h5 (cw_m (nI md))
theorem tw_bank {P C V md : Nat} (i c : Int32) (v p b s : Int64) : TW d Mt (ttM d P C V md i c v p b s Mt) := by
  have h0 := tw_m (d := d) (M := Mt) (f := 358) (Or.inl rfl) (Int32.ofInt 0)
  have h1 := tw_t h0 (tw_w (n := P) (p &&& Int64.ofInt (-2)))
  have h2 := tw_t h1 (tw_w (n := C) (tld i c))
  have h3 := tw_t h2 (tw_w (n := V) v)
  have h4 := tw_t h3 (tw_w (n := 768) s)
  have h5 := tw_t h4 (tw_m (f := 360) (Or.inr rfl) (nI md))
  exact tw_t h5 (tw_s (f := 365) (Or.inr rfl) b)
theorem mkS_trS {x : Int64} {m : Int32} (h : mkS x) : mkS (trS x m) := by
  unfold trS
  exact mkS_tp (k := 1) (mkS_tp (k := 5) (mkS_tp (k := 8) h (by decide) (by decide)) (by decide) (by decide)) (by decide) (by decide)
theorem mkS_trM {x : Int64} {m : Int32} (h : mkS x) (hm : mde m) : mkS (trM x m) := by
  unfold trM
  exact mkS_tp (k := 3) (mkS_tp (k := 7) (mkS_tp2 (k := 11) h hm (by decide) (by decide) (by decide) (by decide)) (by decide) (by decide)) (by decide) (by decide)
theorem lb_pm2 (p : Int64) : lb (p &&& Int64.ofInt (-2)) 0 = false := by
  rw [lb_and, lb_m2 0 (by decide)]
  exact Bool.and_false _
theorem rel_trap (R : RelC u d k Mc Mt) (i c : Int32) {kc : Nat} (hc : ui c = kc) (hk : kc < 64) (v p : Int64) :
    HX100_trap d i c v p Mt ∧ (GX74_trap u i c v p Mc).1 = (GX100_trap d i c v p Mt).1 ∧ RelC u d k (GX74_trap u i c v p Mc).2 (GX100_trap d i c v p Mt).2 := by
  have R0 := R
  obtain ⟨⟨Tc, nu, S, K⟩, ⟨Tt, nd, Z, I1, I2, I3, I4, I5⟩, v1, vl, ⟨vm, hm⟩, vc⟩ := R
  have t1 := X74_trap R0 i c hc hk v p
  obtain ⟨h2, t2⟩ := X100_trap Tt nd hm i c hc hk v p
  have Gc := (gX74_trap u i c v p Mc Tc nu).2.1
  have Gt := (gX100_trap d i c v p Mt Tt nd h2).2.1
  have e770 : Mc.2.1 41 (tbl Mc u 770) 0 = ht Mt d 770 := v1_at v1 (cn_of rfl)
  have e771 : Mc.2.1 41 (tbl Mc u 771) 0 = ht Mt d 771 := v1_at v1 (cn_of rfl)
  have e261 : Mc.2.1 41 (tbl Mc u 261) 0 = ht Mt d 261 := v1_at v1 (cn_of rfl)
  have e773 : Mc.2.1 41 (tbl Mc u 773) 0 = ht Mt d 773 := v1_at v1 (cn_of rfl)
  have e768 : Mc.2.1 41 (tbl Mc u 768) 0 = ht Mt d 768 := v1_at v1 (cn_of rfl)
  refine ⟨h2, ?_, ?_⟩
  · rw [t1, t2, e770, e771, e261, e773, vm]
    by_cases q : ¬ Mt.1 360 d 0 = Int32.ofInt 3 ∧ lb (fi (i = 0) (ht Mt d 770) (ht Mt d 771)) kc = true
    · rw [fi_pos q, fi_pos q]
    · rw [fi_neg q, fi_neg q]
  · rw [t1] at Gc ⊢
    rw [t2] at Gt ⊢
    rw [e770, e771, e261, e773, e768, vm] at Gc ⊢
    by_cases q : ¬ Mt.1 360 d 0 = Int32.ofInt 3 ∧ lb (fi (i = 0) (ht Mt d 770) (ht Mt d 771)) kc = true
    · rw [fi_pos q] at Gc Gt ⊢
      rw [fi_pos q]
      refine relC_of R0 (cw_bank (cn_of rfl) (cn_of rfl) (cn_of rfl) i c v p _ _) (tw_bank i c v p _ _) (v1_bank S v1 (cn_of rfl) (cn_of rfl) (cn_of rfl) i c v p _ _ _) ⟨?_, ?_⟩ ⟨?_, ?_, ?_, ?_, ?_⟩ Gc Gt (fun n hn => ?_)
      · show (fm_sI _ 37 u 0 (nI 1)).1 37 u 0 = (fm_sI _ 360 d 0 (nI 1)).1 360 d 0
        rw [rI, if_pos ⟨rfl, rfl, rfl⟩, rI, if_pos ⟨rfl, rfl, rfl⟩]
      · show mde ((fm_sI _ 360 d 0 (nI 1)).1 360 d 0)
        rw [rI, if_pos ⟨rfl, rfl, rfl⟩]
        exact Or.inr (Or.inl rfl)
      · rw [ttM_h, if_pos rfl]
        exact trS_t I1
      · rw [ttM_h, if_neg (by decide), if_neg (by decide), if_neg (by decide), if_neg (by decide)]
        exact I2
      · rw [ttM_h, if_neg (by decide), if_neg (by decide), if_neg (by decide), if_pos rfl]
        exact lb_pm2 p
      · rw [ttM_h, if_neg (by decide), if_neg (by decide), if_neg (by decide), if_neg (by decide)]
        exact I4
      · rw [ttM_h, if_pos rfl]
        exact mkS_trS I5
      · rw [ttM_h]
        have hz : n ≠ 768 ∧ n ≠ 323 ∧ n ≠ 322 ∧ n ≠ 321 := (show ∀ n ∈ [3857, 3858, 3859, 3861], n ≠ 768 ∧ n ≠ 323 ∧ n ≠ 322 ∧ n ≠ 321 by decide) n hn
        rw [if_neg hz.1, if_neg hz.2.1, if_neg hz.2.2.1, if_neg hz.2.2.2]
    · rw [fi_neg q] at Gc Gt ⊢
      rw [fi_neg q]
      refine relC_of R0 (cw_bank (cn_of rfl) (cn_of rfl) (cn_of rfl) i c v p _ _) (tw_bank i c v p _ _) (v1_bank S v1 (cn_of rfl) (cn_of rfl) (cn_of rfl) i c v p _ _ _) ⟨?_, ?_⟩ ⟨?_, ?_, ?_, ?_, ?_⟩ Gc Gt (fun n hn => ?_)
      · show (fm_sI _ 37 u 0 (nI 3)).1 37 u 0 = (fm_sI _ 360 d 0 (nI 3)).1 360 d 0
        rw [rI, if_pos ⟨rfl, rfl, rfl⟩, rI, if_pos ⟨rfl, rfl, rfl⟩]
      · show mde ((fm_sI _ 360 d 0 (nI 3)).1 360 d 0)
        rw [rI, if_pos ⟨rfl, rfl, rfl⟩]
        exact Or.inr (Or.inr rfl)
      · rw [ttM_h, if_pos rfl]
        exact trM_t _ hm
      · rw [ttM_h, if_neg (by decide), if_neg (by decide), if_neg (by decide), if_pos rfl]
        exact lb_pm2 p
      · rw [ttM_h, if_neg (by decide), if_neg (by decide), if_neg (by decide), if_neg (by decide)]
        exact I3
      · rw [ttM_h, if_neg (by decide), if_neg (by decide), if_neg (by decide), if_neg (by decide)]
        exact I4
      · rw [ttM_h, if_pos rfl]
        exact mkS_trM I5 hm
      · rw [ttM_h]
        have hz : n ≠ 768 ∧ n ≠ 835 ∧ n ≠ 834 ∧ n ≠ 833 := (show ∀ n ∈ [3857, 3858, 3859, 3861], n ≠ 768 ∧ n ≠ 835 ∧ n ≠ 834 ∧ n ≠ 833 by decide) n hn
        rw [if_neg hz.1, if_neg hz.2.1, if_neg hz.2.2.1, if_neg hz.2.2.2]
end Tq
