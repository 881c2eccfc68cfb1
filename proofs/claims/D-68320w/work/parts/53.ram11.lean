/-! reservations and atomics: both memories -/
section Rf
variable {M : FM} {f a i f' a' i' : Nat}
theorem rLf {v : Int64} (h : f' ≠ f) : (fm_sL M f a i v).2.1 f' a' i' = M.2.1 f' a' i' := if_neg (fun q => h q.1)
theorem rIf {v : Int32} (h : f' ≠ f) : (fm_sI M f a i v).1 f' a' i' = M.1 f' a' i' := if_neg (fun q => h q.1)
theorem rRf {v : Nat} (h : f' ≠ f) : (fm_sR M f a i v).2.2 f' a' i' = M.2.2 f' a' i' := if_neg (fun q => h q.1)
end Rf
section At
variable {r c : Nat} {Mc Mt : FM}
theorem rsv_is (T : Ty Mc) (n : fm_is Mc 73 73 r = true) {p : Nat} (hp : p < 4) : fm_is Mc 74 74 (rsv Mc r p) = true := by
  have := tE_921 (i := nI p) T.1 (tN_205 T.1 n) (in_nI (tL_205 T.1 n) hp (by decide))
  rw [nI_clamp (by omega)] at this
  exact this
/-- the twin's places of one processor are written -/
theorem tri_L (I : TrI c Mt) {p : Nat} (hp : p < 4) {x : Int64} (hx : x = Int64.ofInt 0) : TrI c (fm_sL Mt 3 (Mt.2.2 389 c 0) p x) := by
  obtain ⟨T, W, n, B, S⟩ := I
  refine ⟨⟨T.1, T.2⟩, wf_sL W (lo := 902) rfl (tN_389 T.1 n), n, (rLf (by decide)).trans B, fun q hq => ?_⟩
  have e : (fm_sL Mt 3 (Mt.2.2 389 c 0) p x).2.1 3 (Mt.2.2 389 c 0) q = if q = p then x else Mt.2.1 3 (Mt.2.2 389 c 0) q := by
    rw [rL]
    by_cases h : q = p
    · rw [if_pos ⟨rfl, rfl, h⟩, if_pos h]
    · rw [if_neg (fun z => h z.2.2), if_neg h]
  rw [rL2, e]
  by_cases h : q = p
  · rw [if_pos h]
    exact Or.inl hx
  · rw [if_neg h]
    exact S q hq
theorem tmb_L (W : Wf Mt) (T : Ty Mt) (n : fm_is Mt 98 98 c = true) {p : Nat} {x : Int64} (i : Nat) : tmb (fm_sL Mt 3 (Mt.2.2 389 c 0) p x) c i = tmb Mt c i := by
  unfold tmb
  rw [rL2, rL, if_neg (fun z => tr_ne T W n z.2.1)]
theorem ramI_I (I : RamI r Mc) {q : Nat} (hq : fm_is Mc 74 74 q = true) {x : Int32} : RamI r (fm_sI Mc 208 q 0 x) := by
  obtain ⟨T, W, n, P⟩ := I
  exact ⟨⟨T.1, tyb_sI (f := 208) rfl T.2⟩, wf_sI W (lo := 74) rfl hq, n, P⟩
theorem rel_drop (R : RelRam r c Mc Mt) {p : Nat} (hp : p < 4) : RelRam r c (fm_sI Mc 208 (rsv Mc r p) 0 (Int32.ofInt 0)) (fm_sL Mt 3 (Mt.2.2 389 c 0) p (Int64.ofInt 0)) := by
  obtain ⟨I1, I2, m, D, e, S⟩ := R
  refine ⟨ramI_I I1 (rsv_is I1.1 I1.2.2.1 hp), tri_L I2 hp rfl, (rIf (by decide)).trans m, D, fun i hi => ?_, fun q hq => ?_⟩
  · rw [tmb_L I2.2.1 I2.1 I2.2.2.1]
    exact e i hi
  · have e1 : (fm_sI Mc 208 (rsv Mc r p) 0 (Int32.ofInt 0)).1 208 (rsv Mc r q) 0 = if q = p then Int32.ofInt 0 else Mc.1 208 (rsv Mc r q) 0 := by
      rw [rI]
      by_cases h : q = p
      · rw [if_pos ⟨rfl, by rw [h], rfl⟩, if_pos h]
      · rw [if_neg (fun z => h (D q p hq hp z.2.1)), if_neg h]
    have e2 : (fm_sL Mt 3 (Mt.2.2 389 c 0) p (Int64.ofInt 0)).2.1 3 (Mt.2.2 389 c 0) q = if q = p then Int64.ofInt 0 else Mt.2.1 3 (Mt.2.2 389 c 0) q := by
      rw [rL]
      by_cases h : q = p
      · rw [if_pos ⟨rfl, rfl, h⟩, if_pos h]
      · rw [if_neg (fun z => h z.2.2), if_neg h]
    show ((fm_sI Mc 208 (rsv Mc r p) 0 (Int32.ofInt 0)).1 208 (rsv Mc r q) 0 = _ ∧ (fm_sL Mt 3 (Mt.2.2 389 c 0) p (Int64.ofInt 0)).2.1 3 (Mt.2.2 389 c 0) q = _) ∨ ((fm_sI Mc 208 (rsv Mc r p) 0 (Int32.ofInt 0)).1 208 (rsv Mc r q) 0 = _ ∧ (fm_sI Mc 208 (rsv Mc r p) 0 (Int32.ofInt 0)).1 208 (rsv Mc r q) 0 ≠ _ ∧ _ = (fm_sL Mt 3 (Mt.2.2 389 c 0) p (Int64.ofInt 0)).2.1 3 (Mt.2.2 389 c 0) q ∧ _)
    rw [e1, e2]
    by_cases h : q = p
    · rw [if_pos h, if_pos h]
      exact Or.inl ⟨rfl, rfl⟩
    · rw [if_neg h, if_neg h]
      exact S q hq
/-- the twin reserves -/
def tmk (c : Nat) (a : Int64) (sz : Int32) (p : Nat) (M : FM) : FM := fm_sI (fm_sI (fm_sL M 3 (M.2.2 389 c 0) p a) 3 (M.2.2 390 c 0) p sz) 3 (M.2.2 392 c 0) p (M.1 3 (M.2.2 391 c 0) ((ul a - 2147483648) / 8))
theorem rel_make (R : RelRam r c Mc Mt) {p : Nat} (hp : p < 4) {a : Int64} {sz : Int32} (hz : sz ≠ Int32.ofInt 0) (ha : inR a 1) : RelRam r c (GX12_make (rsv Mc r p) a sz Mc) (tmk c a sz p Mt) := by
  obtain ⟨I1, I2, m, D, e, S⟩ := R
  have hq := rsv_is I1.1 I1.2.2.1 hp
  have I2' := I2
  obtain ⟨T, W, n, B, S2⟩ := I2'
  have n02 : Mt.2.2 390 c 0 ≠ Mt.2.2 392 c 0 := sf_ne W (sS_390 W n) (sS_392 W n) (lo := 901) rfl (tN_390 T.1 n) (by decide)
  have n10 : Mt.2.2 391 c 0 ≠ Mt.2.2 390 c 0 := sf_ne W (sS_391 W n) (sS_390 W n) (lo := 901) rfl (tN_391 T.1 n) (by decide)
  have n12 : Mt.2.2 391 c 0 ≠ Mt.2.2 392 c 0 := sf_ne W (sS_391 W n) (sS_392 W n) (lo := 901) rfl (tN_391 T.1 n) (by decide)
  have eL : ∀ q, (tmk c a sz p Mt).2.1 3 (Mt.2.2 389 c 0) q = if q = p then a else Mt.2.1 3 (Mt.2.2 389 c 0) q := by
    intro q
    show (if 3 = 3 ∧ Mt.2.2 389 c 0 = Mt.2.2 389 c 0 ∧ q = p then a else _) = _
    by_cases h : q = p
    · rw [if_pos ⟨rfl, rfl, h⟩, if_pos h]
    · rw [if_neg (fun z => h z.2.2), if_neg h]
  have eI : ∀ b q, (tmk c a sz p Mt).1 3 b q = if b = Mt.2.2 392 c 0 ∧ q = p then Mt.1 3 (Mt.2.2 391 c 0) ((ul a - 2147483648) / 8) else if b = Mt.2.2 390 c 0 ∧ q = p then sz else Mt.1 3 b q := by
    intro b q
    show (if 3 = 3 ∧ b = Mt.2.2 392 c 0 ∧ q = p then _ else if 3 = 3 ∧ b = Mt.2.2 390 c 0 ∧ q = p then sz else Mt.1 3 b q) = _
    by_cases h : b = Mt.2.2 392 c 0 ∧ q = p
    · rw [if_pos ⟨rfl, h⟩, if_pos h]
    · rw [if_neg (fun z => h z.2), if_neg h]
      by_cases h2 : b = Mt.2.2 390 c 0 ∧ q = p
      · rw [if_pos ⟨rfl, h2⟩, if_pos h2]
      · rw [if_neg (fun z => h2 z.2), if_neg h2]
  have e391 : ∀ j, (tmk c a sz p Mt).1 3 (Mt.2.2 391 c 0) j = Mt.1 3 (Mt.2.2 391 c 0) j := fun j => by rw [eI, if_neg (fun z => n12 z.1), if_neg (fun z => n10 z.1)]
  have e392 : ∀ q, (tmk c a sz p Mt).1 3 (Mt.2.2 392 c 0) q = if q = p then Mt.1 3 (Mt.2.2 391 c 0) ((ul a - 2147483648) / 8) else Mt.1 3 (Mt.2.2 392 c 0) q := fun q => by
    rw [eI]
    by_cases h : q = p
    · rw [if_pos ⟨rfl, h⟩, if_pos h]
    · rw [if_neg (fun z => h z.2), if_neg (fun z => h z.2), if_neg h]
  have e390 : ∀ q, (tmk c a sz p Mt).1 3 (Mt.2.2 390 c 0) q = if q = p then sz else Mt.1 3 (Mt.2.2 390 c 0) q := fun q => by
    rw [eI, if_neg (fun z => n02 z.1)]
    by_cases h : q = p
    · rw [if_pos ⟨rfl, h⟩, if_pos h]
    · rw [if_neg (fun z => h z.2), if_neg h]
  have Ib : TyB (fm_sI (fm_sL Mt 3 (Mt.2.2 389 c 0) p a) 3 (Mt.2.2 390 c 0) p sz) := tyb_s3 (t := 901) rfl (M := fm_sL Mt 3 (Mt.2.2 389 c 0) p a) T.2 (tN_390 T.1 n)
  have Tt : Ty (tmk c a sz p Mt) := ⟨T.1, tyb_s3 (t := 901) rfl (M := fm_sI (fm_sL Mt 3 (Mt.2.2 389 c 0) p a) 3 (Mt.2.2 390 c 0) p sz) Ib (tN_392 T.1 n)⟩
  have Wt : Wf (tmk c a sz p Mt) := wf_sI (wf_sI (wf_sL W (lo := 902) rfl (tN_389 T.1 n)) (lo := 901) rfl (tN_390 T.1 n)) (lo := 901) rfl (tN_392 T.1 n)
  have It : TrI c (tmk c a sz p Mt) := by
    refine ⟨Tt, Wt, n, (rLf (M := Mt) (f := 3) (by decide)).trans B, fun q hq => ?_⟩
    show (tmk c a sz p Mt).2.1 3 (Mt.2.2 389 c 0) q = _ ∨ (inR ((tmk c a sz p Mt).2.1 3 (Mt.2.2 389 c 0) q) 1 ∧ (tmk c a sz p Mt).1 3 (Mt.2.2 391 c 0) ((ul ((tmk c a sz p Mt).2.1 3 (Mt.2.2 389 c 0) q) - 2147483648) / 8) = (tmk c a sz p Mt).1 3 (Mt.2.2 392 c 0) q)
    rw [eL, e391, e392]
    by_cases h : q = p
    · rw [if_pos h, if_pos h]
      exact Or.inr ⟨ha, rfl⟩
    · rw [if_neg h, if_neg h]
      exact S2 q hq
  have Im : RamI r (GX12_make (rsv Mc r p) a sz Mc) := by
    obtain ⟨T1, W1, n1, P1⟩ := I1
    have h1 : RamI r (fm_sL Mc 207 (rsv Mc r p) 0 a) := ⟨⟨T1.1, T1.2⟩, wf_sL W1 (lo := 74) rfl hq, n1, P1⟩
    exact ramI_I h1 hq
  refine ⟨Im, It, (rIf (M := fm_sL Mc 207 (rsv Mc r p) 0 a) (f := 208) (by decide)).trans m, D, fun i hi => ?_, fun q hq2 => ?_⟩
  · refine (e i hi).trans ?_
    unfold tmb
    congr 1
    exact (if_neg (fun z => tr_ne T W n z.2.1)).symm
  · have e1 : (GX12_make (rsv Mc r p) a sz Mc).1 208 (rsv Mc r q) 0 = if q = p then sz else Mc.1 208 (rsv Mc r q) 0 := by
      show (if 208 = 208 ∧ rsv Mc r q = rsv Mc r p ∧ 0 = 0 then sz else _) = _
      by_cases h : q = p
      · rw [if_pos ⟨rfl, by rw [h], rfl⟩, if_pos h]
      · rw [if_neg (fun z => h (D q p hq2 hp z.2.1)), if_neg h]
        rfl
    have e2 : (GX12_make (rsv Mc r p) a sz Mc).2.1 207 (rsv Mc r q) 0 = if q = p then a else Mc.2.1 207 (rsv Mc r q) 0 := by
      show (if 207 = 207 ∧ rsv Mc r q = rsv Mc r p ∧ 0 = 0 then a else _) = _
      by_cases h : q = p
      · rw [if_pos ⟨rfl, by rw [h], rfl⟩, if_pos h]
      · rw [if_neg (fun z => h (D q p hq2 hp z.2.1)), if_neg h]
    show ((GX12_make (rsv Mc r p) a sz Mc).1 208 (rsv Mc r q) 0 = _ ∧ (tmk c a sz p Mt).2.1 3 (Mt.2.2 389 c 0) q = _) ∨ ((GX12_make (rsv Mc r p) a sz Mc).1 208 (rsv Mc r q) 0 = (tmk c a sz p Mt).1 3 (Mt.2.2 390 c 0) q ∧ (GX12_make (rsv Mc r p) a sz Mc).1 208 (rsv Mc r q) 0 ≠ _ ∧ (GX12_make (rsv Mc r p) a sz Mc).2.1 207 (rsv Mc r q) 0 = (tmk c a sz p Mt).2.1 3 (Mt.2.2 389 c 0) q ∧ inR ((GX12_make (rsv Mc r p) a sz Mc).2.1 207 (rsv Mc r q) 0) 1)
    rw [e1, e2, eL, e390]
    by_cases h : q = p
    · rw [if_pos h, if_pos h, if_pos h, if_pos h]
      exact Or.inr ⟨rfl, hz, rfl, ha⟩
    · rw [if_neg h, if_neg h, if_neg h, if_neg h]
      exact S q hq2
end At
