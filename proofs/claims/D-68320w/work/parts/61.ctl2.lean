/-! control registers: what both sides hold, and writing it -/
set_option maxRecDepth 100000
abbrev tbl (M : FM) (u n : Nat) : Nat := M.2.2 3 (M.2.2 25 u 0) n
abbrev ht (M : FM) (d n : Nat) : Int64 := M.2.1 3 (M.2.2 361 d 0) n
/-- registers that hold something: number, class, mask -/
def cH : List (Nat × Nat × Int64) := [(768, 16, Int64.ofInt 8288682), (770, 14, Int64.ofInt 46079), (771, 14, Int64.ofInt 546), (772, 14, Int64.ofInt 2730), (836, 15, Int64.ofInt 546), (384, 17, Int64.ofInt (-1)),
  (773, 14, Int64.ofInt (-3)), (774, 14, Int64.ofInt 7), (832, 14, Int64.ofInt (-1)), (833, 14, Int64.ofInt (-2)), (834, 14, Int64.ofInt (-1)), (835, 14, Int64.ofInt (-1)),
  (261, 14, Int64.ofInt (-3)), (262, 14, Int64.ofInt 7), (320, 14, Int64.ofInt (-1)), (321, 14, Int64.ofInt (-2)), (322, 14, Int64.ofInt (-1)), (323, 14, Int64.ofInt (-1)), (2816, 14, Int64.ofInt (-1)), (2818, 14, Int64.ofInt (-1))]
def cN (n : Nat) : Prop := ∃ q ∈ cH, q.1 = n
/-- constants: number -/
def cK : List Nat := [769, 3857, 3858, 3859, 3860, 3861]
def cE : List Nat := [1, 2, 3, 928, 930, 944, 945, 946, 947, 948, 949, 950, 951, 952, 953, 954, 955, 956, 957, 958, 959]
/-- how the component's table is laid, in references -/
def StC (u : Nat) (M : FM) : Prop :=
  (∀ q ∈ cH, M.2.2 0 (tbl M u q.1) 0 = q.2.1) ∧ (∀ p ∈ cH, ∀ q ∈ cH, tbl M u p.1 = tbl M u q.1 → p.1 = q.1) ∧
  (M.2.2 27 u 0 = tbl M u 768 ∧ M.2.2 28 u 0 = tbl M u 770 ∧ M.2.2 29 u 0 = tbl M u 771 ∧ M.2.2 30 u 0 = tbl M u 772 ∧ M.2.2 31 u 0 = tbl M u 836 ∧ M.2.2 34 u 0 = tbl M u 2816 ∧ M.2.2 35 u 0 = tbl M u 2818) ∧
  (M.2.2 49 (M.2.2 32 u 0) 0 = tbl M u 773 ∧ M.2.2 54 (M.2.2 32 u 0) 0 = tbl M u 774 ∧ M.2.2 50 (M.2.2 32 u 0) 0 = tbl M u 832 ∧ M.2.2 51 (M.2.2 32 u 0) 0 = tbl M u 833 ∧ M.2.2 52 (M.2.2 32 u 0) 0 = tbl M u 834 ∧ M.2.2 53 (M.2.2 32 u 0) 0 = tbl M u 835) ∧
  (M.2.2 49 (M.2.2 33 u 0) 0 = tbl M u 261 ∧ M.2.2 54 (M.2.2 33 u 0) 0 = tbl M u 262 ∧ M.2.2 50 (M.2.2 33 u 0) 0 = tbl M u 320 ∧ M.2.2 51 (M.2.2 33 u 0) 0 = tbl M u 321 ∧ M.2.2 52 (M.2.2 33 u 0) 0 = tbl M u 322 ∧ M.2.2 53 (M.2.2 33 u 0) 0 = tbl M u 323) ∧
  (M.2.2 0 (M.2.2 36 u 0) 0 = 14 ∧ ∀ q ∈ cH, tbl M u q.1 ≠ M.2.2 36 u 0) ∧
  (M.2.2 0 (tbl M u 256) 0 = 19 ∧ M.2.2 45 (tbl M u 256) 0 = tbl M u 768 ∧ M.2.2 0 (M.2.2 46 (tbl M u 256) 0) 0 = 13) ∧
  (M.2.2 0 (tbl M u 260) 0 = 19 ∧ M.2.2 45 (tbl M u 260) 0 = tbl M u 772 ∧ M.2.2 46 (tbl M u 260) 0 = tbl M u 771) ∧
  (M.2.2 0 (tbl M u 324) 0 = 19 ∧ M.2.2 45 (tbl M u 324) 0 = tbl M u 836 ∧ M.2.2 46 (tbl M u 324) 0 = tbl M u 771) ∧
  (M.2.2 0 (tbl M u 3072) 0 = 18 ∧ M.2.2 44 (tbl M u 3072) 0 = tbl M u 2816 ∧ M.2.2 0 (tbl M u 3073) 0 = 18 ∧ M.2.2 44 (tbl M u 3073) 0 = M.2.2 36 u 0 ∧ M.2.2 0 (tbl M u 3074) 0 = 18 ∧ M.2.2 44 (tbl M u 3074) 0 = tbl M u 2818) ∧
  (∀ n ∈ cK, M.2.2 0 (tbl M u n) 0 = 13 ∧ tbl M u n ≠ M.2.2 26 u 0) ∧
  (M.2.2 0 (M.2.2 26 u 0) 0 = 13 ∧ M.2.2 26 u 0 ≠ 0 ∧ ∀ n ∈ cE, tbl M u n = M.2.2 26 u 0) ∧
  (∀ n, n < 4096 → ¬ cN n → n ∉ cK → n ∉ cE → n ∉ [256, 260, 324, 3072, 3073, 3074] → tbl M u n = 0)
/-- numbers that never change -/
def MkC (u : Nat) (k : Int32) (M : FM) : Prop := (∀ q ∈ cH, M.2.1 42 (tbl M u q.1) 0 = q.2.2) ∧
  (M.2.1 40 (M.2.2 46 (tbl M u 256) 0) 0 = Int64.ofInt 811298 ∧ M.2.1 47 (tbl M u 256) 0 = Int64.ofInt (-1) ∧ M.2.1 48 (tbl M u 256) 0 = Int64.ofInt (-9223372028264841216)) ∧
  (M.2.1 47 (tbl M u 260) 0 = Int64.ofInt (-1) ∧ M.2.1 48 (tbl M u 260) 0 = Int64.ofInt 0) ∧ (M.2.1 47 (tbl M u 324) 0 = Int64.ofInt 2 ∧ M.2.1 48 (tbl M u 324) 0 = Int64.ofInt 0) ∧
  M.2.1 40 (tbl M u 769) 0 = Int64.ofInt (-9223372036853460691) ∧ (∀ n ∈ [3857, 3858, 3859, 3861], M.2.1 40 (tbl M u n) 0 = Int64.ofInt 0) ∧ M.2.1 40 (tbl M u 3860) 0 = k.toInt64 ∧
  (M.1 3 (M.2.2 24 u 0) 0 = Int32.ofInt 11 ∧ M.1 3 (M.2.2 24 u 0) 1 = Int32.ofInt 3 ∧ M.1 3 (M.2.2 24 u 0) 2 = Int32.ofInt 7 ∧ M.1 3 (M.2.2 24 u 0) 3 = Int32.ofInt 9 ∧ M.1 3 (M.2.2 24 u 0) 4 = Int32.ofInt 1 ∧ M.1 3 (M.2.2 24 u 0) 5 = Int32.ofInt 5)
/-- lines: their bits -/
def lns : List Nat := [3, 7, 9, 11]
def V1 (u d : Nat) (Mc Mt : FM) : Prop := ∀ q ∈ cH, Mc.2.1 41 (tbl Mc u q.1) 0 = ht Mt d q.1
def VL (u d : Nat) (Mc Mt : FM) : Prop := (∀ i, i < 64 → lb (Mc.2.1 43 (tbl Mc u 836) 0) i = (fe_mem lns i && decide (Mt.1 3 (Mt.2.2 362 d 0) i ≠ 0))) ∧ (∀ i, i < 12 → fe_mem lns i = false → Mt.1 3 (Mt.2.2 362 d 0) i = 0)
def mkS (x : Int64) : Prop := ∀ i, i < 64 → lb (Int64.ofInt 8288682) i = false → lb x i = false
theorem mkS_tp {x : Int64} {b : Int32} {c : Prop} {k : Nat} (h : mkS x) (hb : ui b % 64 = k) (hk : lb (Int64.ofInt 8288682) k = true) : mkS (tp x b (bz c)) := fun i hi hm => by
  have := Classical.propDecidable c
  rw [tp_b x hb i hi, if_neg (fun z => by rw [z, hk] at hm; cases hm)]
  exact h i hi hm
theorem mkS_tpv {x : Int64} {b v : Int32} {c : Prop} {k : Nat} (hv : v = bz c) (h : mkS x) (hb : ui b % 64 = k) (hk : lb (Int64.ofInt 8288682) k = true) : mkS (tp x b v) := by
  rw [hv]
  exact mkS_tp h hb hk
theorem mkS_tp2 {x : Int64} {b m : Int32} {k : Nat} (h : mkS x) (hm : mde m) (hb : ui b = k) (hk : k < 60) (h1 : lb (Int64.ofInt 8288682) k = true) (h2 : lb (Int64.ofInt 8288682) (k + 1) = true) : mkS (tp2 x b m) := fun i hi q => by
  rw [tp2_b hm hb hk i hi, if_neg (fun z => by rw [z, h1] at q; cases q), if_neg (fun z => by rw [z, h2] at q; cases q)]
  exact h i hi q
def VI (d : Nat) (Mt : FM) : Prop := tw (ht Mt d 768) 11 ≠ Int32.ofInt 2 ∧ lb (ht Mt d 833) 0 = false ∧ lb (ht Mt d 321) 0 = false ∧ (ul (ht Mt d 384) / 2 ^ 60 = 0 ∨ ul (ht Mt d 384) / 2 ^ 60 = 8 ∨ ul (ht Mt d 384) / 2 ^ 60 = 9) ∧ mkS (ht Mt d 768)
def VZ (d : Nat) (k : Int32) (Mt : FM) : Prop := Mt.1 359 d 0 = k ∧ ∀ n ∈ [3857, 3858, 3859, 3861], ht Mt d n = Int64.ofInt 0
def RelC (u d : Nat) (k : Int32) (Mc Mt : FM) : Prop := (Ty Mc ∧ fm_is Mc 12 12 u = true ∧ StC u Mc ∧ MkC u k Mc) ∧ (Ty Mt ∧ fm_is Mt 95 95 d = true ∧ VZ d k Mt ∧ VI d Mt) ∧
  V1 u d Mc Mt ∧ VL u d Mc Mt ∧ (Mc.1 37 u 0 = Mt.1 360 d 0 ∧ mde (Mt.1 360 d 0)) ∧ Mc.2.1 41 (Mc.2.2 36 u 0) 0 = Mt.2.1 363 d 0
/-- what the component's control unit writes -/
def CW (u : Nat) (M M' : FM) : Prop := M'.2.2 = M.2.2 ∧ (∀ f b i, ¬ (f = 37 ∧ b = u) → M'.1 f b i = M.1 f b i) ∧ (∀ f b i, f ≠ 41 → ¬ (b = u ∧ (f = 38 ∨ f = 39)) → M'.2.1 f b i = M.2.1 f b i) ∧ (∀ b i, (∀ q ∈ cH, b ≠ tbl M u q.1) → M'.2.1 41 b i = M.2.1 41 b i)
/-- what the twin's desk writes -/
def TW (d : Nat) (M M' : FM) : Prop := M'.2.2 = M.2.2 ∧ (∀ f b i, ¬ (b = d ∧ (f = 358 ∨ f = 360)) → M'.1 f b i = M.1 f b i) ∧ (∀ f b i, ¬ (b = d ∧ (f = 364 ∨ f = 365)) → ¬ (f = 3 ∧ b = M.2.2 361 d 0) → M'.2.1 f b i = M.2.1 f b i)
section Cw
variable {u d : Nat} {M M' : FM} {n : Nat}
theorem cw_r : CW u M M := ⟨rfl, fun _ _ _ _ => rfl, fun _ _ _ _ _ => rfl, fun _ _ _ => rfl⟩
theorem tw_r : TW d M M := ⟨rfl, fun _ _ _ _ => rfl, fun _ _ _ _ _ => rfl⟩
theorem cw_t {M2 : FM} (h : CW u M M') (k : CW u M' M2) : CW u M M2 := by
  obtain ⟨a1, a2, a3, a4⟩ := h
  obtain ⟨b1, b2, b3, b4⟩ := k
  refine ⟨b1.trans a1, fun f b i h => (b2 f b i h).trans (a2 f b i h), fun f b i h k => (b3 f b i h k).trans (a3 f b i h k), fun b i h => (b4 b i ?_).trans (a4 b i h)⟩
  unfold tbl
  rw [a1]
  exact h
theorem tw_t {M2 : FM} (h : TW d M M') (k : TW d M' M2) : TW d M M2 := by
  obtain ⟨a1, a2, a3⟩ := h
  obtain ⟨b1, b2, b3⟩ := k
  refine ⟨b1.trans a1, fun f b i h => (b2 f b i h).trans (a2 f b i h), fun f b i h k => (b3 f b i h ?_).trans (a3 f b i h k)⟩
  rw [a1]
  exact k
theorem cw_w (hn : cN n) (v : Int64) : CW u M (fm_sL M 41 (tbl M u n) 0 v) := by
  obtain ⟨q, hq, rfl⟩ := hn
  exact ⟨rfl, fun _ _ _ _ => rfl, fun f b i h _ => if_neg (fun z => h z.1), fun b i h => if_neg (fun z => h q hq z.2.1)⟩
theorem cw_m (v : Int32) : CW u M (fm_sI M 37 u 0 v) := ⟨rfl, fun f b i h => if_neg (fun z => h ⟨z.1, z.2.1⟩), fun _ _ _ _ _ => rfl, fun _ _ _ => rfl⟩
theorem cw_s {f : Nat} (hf : f = 38 ∨ f = 39) (v : Int64) : CW u M (fm_sL M f u 0 v) := ⟨rfl, fun _ _ _ _ => rfl, fun g b i _ h => if_neg (fun z => h ⟨z.2.1, by rw [z.1]; exact hf⟩), fun b i _ => if_neg (fun z => by omega)⟩
theorem tw_w (v : Int64) : TW d M (fm_sL M 3 (M.2.2 361 d 0) n v) := ⟨rfl, fun _ _ _ _ => rfl, fun f b i _ h => if_neg (fun z => h ⟨z.1, z.2.1⟩)⟩
theorem tw_m {f : Nat} (hf : f = 358 ∨ f = 360) (v : Int32) : TW d M (fm_sI M f d 0 v) := ⟨rfl, fun g b i h => if_neg (fun z => h ⟨z.2.1, by rw [z.1]; exact hf⟩), fun _ _ _ _ _ => rfl⟩
theorem tw_s {f : Nat} (hf : f = 364 ∨ f = 365) (v : Int64) : TW d M (fm_sL M f d 0 v) := ⟨rfl, fun _ _ _ _ => rfl, fun g b i h _ => if_neg (fun z => h ⟨z.2.1, by rw [z.1]; exact hf⟩)⟩
end Cw
section V1s
variable {u d : Nat} {Mc Mt : FM} {n : Nat}
theorem v1_w (S : StC u Mc) (h : V1 u d Mc Mt) (hn : cN n) (v : Int64) : V1 u d (fm_sL Mc 41 (tbl Mc u n) 0 v) (fm_sL Mt 3 (Mt.2.2 361 d 0) n v) := by
  obtain ⟨q, hq, rfl⟩ := hn
  intro p hp
  show (fm_sL Mc 41 (tbl Mc u q.1) 0 v).2.1 41 (tbl Mc u p.1) 0 = (fm_sL Mt 3 (Mt.2.2 361 d 0) q.1 v).2.1 3 (Mt.2.2 361 d 0) p.1
  rw [rL, rL]
  by_cases e : p.1 = q.1
  · rw [if_pos ⟨rfl, by rw [e], rfl⟩, if_pos ⟨rfl, rfl, e⟩]
  · rw [if_neg (fun z => e (S.2.1 p hp q hq z.2.1)), if_neg (fun z => e z.2.2)]
    exact h p hp
/-- V1 looks at these alone -/
theorem v1_c {Mc' Mt' : FM} (h : V1 u d Mc Mt) (a : Mc'.2.1 41 = Mc.2.1 41) (b : Mc'.2.2 = Mc.2.2) (e : Mt'.2.1 3 = Mt.2.1 3) (f : Mt'.2.2 = Mt.2.2) : V1 u d Mc' Mt' := by
  intro p hp
  unfold ht tbl
  rw [a, b, e, f]
  exact h p hp
theorem v1_at (h : V1 u d Mc Mt) (hn : cN n) : Mc.2.1 41 (tbl Mc u n) 0 = ht Mt d n := by
  obtain ⟨q, hq, rfl⟩ := hn
  exact h q hq
theorem stc_c {Mc' : FM} (h : Mc'.2.2 = Mc.2.2) (S : StC u Mc) : StC u Mc' := by
  unfold StC tbl at *
  rw [h]
  exact S
end V1s
theorem cn_768 : cN 768 := ⟨_, List.Mem.head _, rfl⟩
theorem cn_of {n : Nat} (h : (cH.any fun q => Nat.beq q.1 n) = true) : cN n := by
  obtain ⟨q, hq, e⟩ := List.any_eq_true.mp h
  exact ⟨q, hq, Nat.eq_of_beq_eq_true e⟩
/-- the relation behind what both sides write -/
theorem relC_of {u d : Nat} {k : Int32} {Mc Mt Mc' Mt' : FM} (R : RelC u d k Mc Mt) (c : CW u Mc Mc') (t : TW d Mt Mt') (v : V1 u d Mc' Mt') (m : Mc'.1 37 u 0 = Mt'.1 360 d 0 ∧ mde (Mt'.1 360 d 0)) (I : VI d Mt') (Tc : Ty Mc') (Tt : Ty Mt') (hz : ∀ n ∈ [3857, 3858, 3859, 3861], ht Mt' d n = ht Mt d n) : RelC u d k Mc' Mt' := by
  obtain ⟨⟨-, a2, a3, a4⟩, ⟨-, b2, b3, -⟩, -, c2, -, c4⟩ := R
  obtain ⟨w1, w2, w3, w4⟩ := c
  obtain ⟨x1, x2, x3⟩ := t
  have et : ∀ n, tbl Mc' u n = tbl Mc u n := fun n => by unfold tbl; rw [w1]
  refine ⟨⟨Tc, ?_, stc_c w1 a3, ?_⟩, ⟨Tt, ?_, ⟨?_, fun n hn => (hz n hn).trans (b3.2 n hn)⟩, I⟩, v, ?_, m, ?_⟩
  · unfold fm_is at *
    rw [w1]
    exact a2
  · obtain ⟨m1, ⟨m2, m3, m4⟩, ⟨m5, m6⟩, ⟨m7, m8⟩, m9, m10, m11, m12⟩ := a4
    have L : ∀ f b i, f ≠ 41 → f ≠ 38 → f ≠ 39 → Mc'.2.1 f b i = Mc.2.1 f b i := fun f b i h1 h2 h3 => w3 f b i h1 (fun z => z.2.elim h2 h3)
    have I3 : ∀ b i, Mc'.1 3 b i = Mc.1 3 b i := fun b i => w2 3 b i (fun z => absurd z.1 (by decide))
    refine ⟨fun q hq => ?_, ⟨?_, ?_, ?_⟩, ⟨?_, ?_⟩, ⟨?_, ?_⟩, ?_, fun n hn => ?_, ?_, ?_⟩
    · rw [et, L _ _ _ (by decide) (by decide) (by decide)]
      exact m1 q hq
    · rw [et, w1, L _ _ _ (by decide) (by decide) (by decide)]
      exact m2
    · rw [et, L _ _ _ (by decide) (by decide) (by decide)]
      exact m3
    · rw [et, L _ _ _ (by decide) (by decide) (by decide)]
      exact m4
    · rw [et, L _ _ _ (by decide) (by decide) (by decide)]
      exact m5
    · rw [et, L _ _ _ (by decide) (by decide) (by decide)]
      exact m6
    · rw [et, L _ _ _ (by decide) (by decide) (by decide)]
      exact m7
    · rw [et, L _ _ _ (by decide) (by decide) (by decide)]
      exact m8
    · rw [et, L _ _ _ (by decide) (by decide) (by decide)]
      exact m9
    · rw [et, L _ _ _ (by decide) (by decide) (by decide)]
      exact m10 n hn
    · rw [et, L _ _ _ (by decide) (by decide) (by decide)]
      exact m11
    · rw [w1]
      simp only [I3]
      exact m12
  · unfold fm_is at *
    rw [x1]
    exact b2
  · rw [x2 _ _ _ (fun z => z.2.elim (by decide) (by decide))]
    exact b3.1
  · have I3 : ∀ b i, Mt'.1 3 b i = Mt.1 3 b i := fun b i => x2 3 b i (fun z => z.2.elim (by decide) (by decide))
    refine ⟨fun i hi => ?_, fun i hi hl => ?_⟩
    · rw [et, w3 _ _ _ (by decide) (fun z => z.2.elim (by decide) (by decide)), x1, I3]
      exact c2.1 i hi
    · rw [x1, I3]
      exact c2.2 i hi hl
  · rw [w1, w4 _ _ (fun q hq e => a3.2.2.2.2.2.1.2 q hq e.symm), x3 _ _ _ (fun z => z.2.elim (by decide) (by decide)) (fun z => absurd z.1 (by decide))]
    exact c4
