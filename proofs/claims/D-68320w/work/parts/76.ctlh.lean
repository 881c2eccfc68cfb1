/-! control registers: access, both sides -/
set_option maxRecDepth 100000
theorem vi_c {d : Nat} {M N : FM} (h : ∀ n, ht N d n = ht M d n) (v : VI d M) : VI d N := by
  unfold VI at *
  simp only [h]
  exact v
section Ac
variable {u d n x : Nat} {k op w : Int32} {Mc Mt M : FM} {v : Int64}
theorem rel_t358 (R : RelC u d k Mc Mt) (m : Int32) : RelC u d k Mc (fm_sI Mt 358 d 0 m) := by
  have h := stg_t358 (stg_0 R.2.2.1) (Or.inl rfl) m
  exact relC_of R h.2.1 h.2.2 h.1 R.2.2.2.2.1 (vi_c (fun n => rfl) R.2.1.2.2.2) R.1.1 ⟨R.2.1.1.1, tyb_sI (f := 358) rfl R.2.1.1.2⟩ (fun n hn => rfl)
theorem rel_t364 (R : RelC u d k Mc Mt) {f : Nat} (hf : f = 364 ∨ f = 365) (a : Int64) : RelC u d k Mc (fm_sL Mt f d 0 a) := by
  have h := stg_t364 (stg_0 R.2.2.1) hf a
  have e : ∀ n, ht (fm_sL Mt f d 0 a) d n = ht Mt d n := fun n => rLf (by omega)
  exact relC_of R h.2.1 h.2.2 h.1 R.2.2.2.2.1 (vi_c e R.2.1.2.2.2) R.1.1 ⟨R.2.1.1.1, R.2.1.1.2⟩ (fun n hn => e n)
theorem rel_c38 (R : RelC u d k Mc Mt) {f : Nat} (hf : f = 38 ∨ f = 39) (a : Int64) : RelC u d k (fm_sL Mc f u 0 a) Mt := by
  have h := stg_c38 (stg_0 R.2.2.1) hf a
  exact relC_of R h.2.1 h.2.2 h.1 R.2.2.2.2.1 R.2.1.2.2.2 ⟨R.1.1.1, R.1.1.2⟩ R.2.1.1 (fun n hn => rfl)
/-- floating point is changed -/
theorem rel_dirty2 (R : RelC u d k Mc Mt) : RelC u d k (GX78_putTwo (tbl Mc u 768) (Int32.ofInt 13) (Int32.ofInt 3) Mc) (GX100_put d (Int32.ofInt 14) (Int32.ofInt 1) (GX100_put d (Int32.ofInt 13) (Int32.ofInt 1) Mt)) := by
  have R0 := R
  obtain ⟨⟨Tc, nu, S, K⟩, ⟨Tt, nd, ⟨z1, z2⟩, I1, I2, I3, I4, I5⟩, v1, vl, vm, vc⟩ := R
  have h := stg_put2 S (stg_0 (d := d) v1) rfl (b := Int32.ofInt 13) (m := Int32.ofInt 3) (k := 13) (Or.inr (Or.inr rfl)) rfl (by decide)
  have h : Stg u d Mc Mt (GX78_putTwo (tbl Mc u 768) (Int32.ofInt 13) (Int32.ofInt 3) Mc) (GX100_put d (Int32.ofInt 14) (Int32.ofInt 1) (GX100_put d (Int32.ofInt 13) (Int32.ofInt 1) Mt)) := h
  have hx : ∀ n, ht (GX100_put d (Int32.ofInt 14) (Int32.ofInt 1) (GX100_put d (Int32.ofInt 13) (Int32.ofInt 1) Mt)) d n = if n = 768 then tp (tp (ht Mt d 768) (Int32.ofInt 13) (Int32.ofInt 1)) (Int32.ofInt 14) (Int32.ofInt 1) else ht Mt d n := fun n => by
    by_cases q : n = 768
    · rw [if_pos q, q, ht_put, if_pos rfl, ht_put, if_pos rfl]
    · rw [if_neg q, ht_put, if_neg q, ht_put, if_neg q]
  have Tc' : Ty (GX78_putTwo (tbl Mc u 768) (Int32.ofInt 13) (Int32.ofInt 3) Mc) := by
    rw [X78_putTwo (k := 13) (Or.inr (Or.inr rfl)) rfl (by decide)]
    exact ⟨Tc.1, Tc.2⟩
  refine relC_of R0 h.2.1 h.2.2 h.1 ?_ ⟨?_, ?_, ?_, ?_, ?_⟩ Tc' ⟨Tt.1, Tt.2⟩ (fun n hn => ?_)
  · rw [put2_I]
    exact vm
  · rw [hx, if_pos rfl, show ∀ y b, tp y b (Int32.ofInt 1) = tp y b (bz True) from fun y b => by rw [bz_t (c := True) trivial], tw_put (kb := 14) rfl (by decide) (by decide), show ∀ y b, tp y b (Int32.ofInt 1) = tp y b (bz True) from fun y b => by rw [bz_t (c := True) trivial], tw_put (kb := 13) rfl (by decide) (by decide)]
    exact I1
  · rw [hx, if_neg (by decide)]
    exact I2
  · rw [hx, if_neg (by decide)]
    exact I3
  · rw [hx, if_neg (by decide)]
    exact I4
  · rw [hx, if_pos rfl]
    exact mkS_tpv (k := 14) bz1 (mkS_tpv (k := 13) bz1 I5 rfl (by decide)) rfl (by decide)
  · rw [hx, if_neg ((show ∀ n ∈ [3857, 3858, 3859, 3861], n ≠ 768 by decide) n hn)]
/-- what is written by an operation -/
noncomputable def opv (op : Int32) (b v : Int64) : Int64 := fi (op = Int32.ofInt 1) v (fi (op = Int32.ofInt 2) (b ||| v) (b &&& (v ^^^ Int64.ofInt (-1))))
noncomputable def cBs (x : Nat) (M : FM) : Int64 × FM := fi (fm_is M 13 13 x = true) (GX75_base x M) ((fi (fm_is M 14 14 x = true) (GX75_base x M) ((fi (fm_is M 15 15 x = true) (GX79_base x M) ((fi (fm_is M 16 16 x = true) (GX75_base x M) ((fi (fm_is M 17 17 x = true) (GX75_base x M) ((fi (fm_is M 18 18 x = true) (GX75_base x M) (GX75_base x M)))))))))))
theorem cBs_n (h : M.2.2 0 x 0 ≠ 15) : cBs x M = cSh x M := by
  have e : GX75_base x M = cSh x M := rfl
  have h15 : ¬ fm_is M 15 15 x = true := fun q => h (by have := fm_isd q; omega)
  unfold cBs
  rw [e, fi_neg h15, fi_self, fi_self, fi_self, fi_self, fi_self]
theorem cBs_15 (h : M.2.2 0 x 0 = 15) : cBs x M = (M.2.1 41 x 0 ||| (M.2.1 43 x 0 &&& Int64.ofInt (-513)), M) := by
  unfold cBs
  rw [fi_neg (isN h (by decide)), fi_neg (isN h (by decide)), fi_pos (isT h (by decide) (by decide))]
  rfl
theorem c75_access {b : Int64} (hb : cBs x M = (b, M)) : GX75_access x op v M = GX75_access_34 x (opv op b v) M := by
  unfold GX75_access GX75_access_0 opv
  unfold cBs at hb
  rw [hb]
  dsimp only
  by_cases h1 : op = Int32.ofInt 1
  · rw [fi_pos h1, fi_pos h1]
  · rw [fi_neg h1, fi_neg h1]
    by_cases h2 : op = Int32.ofInt 2
    · rw [fi_pos h2, fi_pos h2]
    · rw [fi_neg h2, fi_neg h2]
theorem hb_of (h : cShH x M) : HX75_base x M :=
  ⟨⟨h.1, fun a => ⟨(h.2 a).1, fun b => ⟨((h.2 a).2 b).1, fun c => ⟨(((h.2 a).2 b).2 c).1, fun e => ⟨((((h.2 a).2 b).2 c).2 e).1, fun f => ⟨(((((h.2 a).2 b).2 c).2 e).2 f).1, fun g => ((((((h.2 a).2 b).2 c).2 e).2 f).2 g).2⟩⟩⟩⟩⟩⟩, trivial⟩
theorem c75_accessH {b : Int64} (hs : cShH x M) (hb : cBs x M = (b, M)) (h34 : ∀ y, HX75_access_34 x y M) : HX75_access x op v M := by
  have q := hb_of hs
  unfold HX75_access HX75_access_0
  unfold cBs at hb
  rw [hb]
  exact ⟨fun _ => h34 _, fun _ => ⟨fun _ => ⟨⟨fun _ => q, fun _ => ⟨fun _ => q, fun _ => ⟨fun _ => trivial, fun _ => ⟨fun _ => q, fun _ => ⟨fun _ => q, fun _ => ⟨fun _ => q, fun _ => q⟩⟩⟩⟩⟩⟩, h34 _⟩, fun _ => ⟨⟨fun _ => q, fun _ => ⟨fun _ => q, fun _ => ⟨fun _ => trivial, fun _ => ⟨fun _ => q, fun _ => ⟨fun _ => q, fun _ => ⟨fun _ => q, fun _ => q⟩⟩⟩⟩⟩⟩, h34 _⟩⟩⟩
theorem t_acc {b : Int64} {a : Int32} : GX100_access_122 d a op w v b M = fi (w = 0) (Int32.ofInt 0, M) (Int32.ofInt 0, GX100_write d a (opv op b v) M) := by
  unfold GX100_access_122 GX100_access_165 GX100_access_162 GX100_access_165 opv
  by_cases h0 : w = 0
  · rw [fi_pos h0, fi_pos h0]
  · rw [fi_neg h0, fi_neg h0]
    by_cases h1 : op = Int32.ofInt 1
    · rw [fi_pos h1, fi_pos h1]
    · rw [fi_neg h1, fi_neg h1]
      by_cases h2 : op = Int32.ofInt 2
      · rw [fi_pos h2, fi_pos h2]
      · rw [fi_neg h2, fi_neg h2]
theorem t_accH {b : Int64} {a : Int32} (h : ∀ y, HX100_write d a y M) : HX100_access_122 d a op w v b M :=
  ⟨fun _ => trivial, fun _ => ⟨fun _ => ⟨h _, trivial⟩, fun _ => ⟨fun _ => ⟨h _, trivial⟩, fun _ => ⟨h _, trivial⟩⟩⟩⟩
end Ac
