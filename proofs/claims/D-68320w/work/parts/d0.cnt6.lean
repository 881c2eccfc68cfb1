/-! the controller: the twin's reads -/
set_option maxRecDepth 100000
def FrK (m : Nat) (M M' : FM) : Prop := M'.2.2 = M.2.2 ∧ (∀ f b i, ¬ (f = 3 ∧ (b = M.2.2 399 m 0 ∨ b = M.2.2 400 m 0 ∨ b = M.2.2 401 m 0 ∨ b = M.2.2 402 m 0 ∨ b = M.2.2 403 m 0 ∨ b = M.2.2 404 m 0)) → M'.1 f b i = M.1 f b i) ∧ (∀ f b i, M'.2.1 f b i = M.2.1 f b i)
theorem frK_r (m : Nat) (M : FM) : FrK m M M := ⟨rfl, fun _ _ _ _ => rfl, fun _ _ _ => rfl⟩
theorem frK_A {m a k : Nat} {v : Int32} {M N : FM} (h : FrK m M N) (ha : a = M.2.2 399 m 0 ∨ a = M.2.2 400 m 0 ∨ a = M.2.2 401 m 0 ∨ a = M.2.2 402 m 0 ∨ a = M.2.2 403 m 0 ∨ a = M.2.2 404 m 0) : FrK m M (fm_sI N 3 a k v) :=
  ⟨h.1, fun g b i z => by rw [rI, if_neg (fun q => z ⟨q.1, by rw [q.2.1]; exact ha⟩)]; exact h.2.1 g b i z, h.2.2⟩
theorem frK_t {m : Nat} {M N X : FM} (h : FrK m M N) (k : FrK m N X) : FrK m M X := ⟨k.1.trans h.1, fun f b i z => (k.2.1 f b i (by rw [h.1]; exact z)).trans (h.2.1 f b i z), fun f b i => (k.2.2 f b i).trans (h.2.2 f b i)⟩
/-- the same memory -/
theorem frK_same {m f : Nat} {v : Int64} {M N : FM} (h : FrK m M N) (hv : M.2.1 f m 0 = v) : FrK m M (fm_sL N f m 0 v) :=
  ⟨h.1, h.2.1, fun g b i => by
    rw [rL]
    by_cases e : g = f ∧ b = m ∧ i = 0
    · rw [if_pos e, ← hv, e.1, e.2.1, e.2.2]
    · rw [if_neg e]
      exact h.2.2 g b i⟩
section Cn
variable {m p n : Nat} {M : FM} {K : Kr}
/-- the six rows are six -/
theorem t_ne6 (T : Ty M) (W : Wf M) (n : fm_is M 99 99 m = true) : (M.2.2 399 m 0 ≠ M.2.2 400 m 0 ∧ M.2.2 399 m 0 ≠ M.2.2 401 m 0 ∧ M.2.2 400 m 0 ≠ M.2.2 401 m 0) ∧ (M.2.2 402 m 0 ≠ M.2.2 403 m 0 ∧ M.2.2 402 m 0 ≠ M.2.2 404 m 0 ∧ M.2.2 403 m 0 ≠ M.2.2 404 m 0) ∧
    ∀ x, (x = M.2.2 399 m 0 ∨ x = M.2.2 400 m 0 ∨ x = M.2.2 401 m 0) → x ≠ M.2.2 402 m 0 ∧ x ≠ M.2.2 403 m 0 ∧ x ≠ M.2.2 404 m 0 := by
  have n1 := fm_ist (lo := 904) rfl (tN_399 T.1 n)
  have n2 := fm_ist (lo := 904) rfl (tN_400 T.1 n)
  have n4 := fm_ist (lo := 901) rfl (tN_402 T.1 n)
  have n5 := fm_ist (lo := 901) rfl (tN_403 T.1 n)
  have s1 : Sf M (M.2.2 399 m 0) 399 := W.2.1.1 (99, 99, 399, 399) (by decide) m n
  have s2 : Sf M (M.2.2 400 m 0) 400 := W.2.1.1 (99, 99, 400, 400) (by decide) m n
  have s3 : Sf M (M.2.2 401 m 0) 401 := W.2.1.1 (99, 99, 401, 401) (by decide) m n
  have s4 : Sf M (M.2.2 402 m 0) 402 := W.2.1.1 (99, 99, 402, 402) (by decide) m n
  have s5 : Sf M (M.2.2 403 m 0) 403 := W.2.1.1 (99, 99, 403, 403) (by decide) m n
  have s6 : Sf M (M.2.2 404 m 0) 404 := W.2.1.1 (99, 99, 404, 404) (by decide) m n
  refine ⟨⟨site_ne W s1 s2 (by decide) n1, site_ne W s1 s3 (by decide) n1, site_ne W s2 s3 (by decide) n2⟩, ⟨site_ne W s4 s5 (by decide) n4, site_ne W s4 s6 (by decide) n4, site_ne W s5 s6 (by decide) n5⟩, fun x hx => ?_⟩
  have nx : fm_is M 904 904 x = true := by
    rcases hx with e | e | e <;> rw [e]
    · exact tN_399 T.1 n
    · exact tN_400 T.1 n
    · exact tN_401 T.1 n
  exact ⟨nis nx (tN_402 T.1 n) (by decide), nis nx (tN_403 T.1 n) (by decide), nis nx (tN_404 T.1 n) (by decide)⟩
theorem X96_claim (T : Ty M) (W : Wf M) (mm : fm_is M 99 99 m = true) (V : VKt m M K) (I : VKi K) {c : Nat} (hc : c < 8) : ∃ M', (HX96_claim m (nI c) M ∧ GX96_claim m (nI c) M = ((kCl c K).1, M')) ∧ VKt m M' (kCl c K).2 ∧ FrK m M M' ∧ Ty M' ∧ VKi (kCl c K).2 := by
  obtain ⟨⟨d1, d2, d3⟩, ⟨d4, d5, d6⟩, d7⟩ := t_ne6 T W mm
  obtain ⟨v1, v2, v3, v4, v5, v6⟩ := V
  obtain ⟨b, ⟨e1, e2⟩, e3⟩ := X96_best T mm hc
  have cnd_iff : ∀ s, 1 ≤ s → s < 32 → (cndT m c 0 M s ↔ cnd (K.2.1 &&& K.2.2.2.2.1 c) (Int32.ofInt 0) K.2.2.2.1 s) := fun s _ h => by
    unfold cndT cnd
    rw [v2 s h, v5 c hc, v4 s h, bz_0, Classical.not_not, ib_and, Bool.and_eq_true, and_assoc]
    rfl
  have hb : kBe c K = b := by
    unfold kBe
    refine bst_eq ?_
    rcases e3 with ⟨a1, a2⟩ | ⟨a1, a2, a3, a4⟩
    · exact Or.inl ⟨a1, fun s x1 x2 q => a2 s x1 x2 ((cnd_iff s x1 x2).mpr q)⟩
    · refine Or.inr ⟨a1, a2, (cnd_iff b a1 a2).mp a3, fun s x1 x2 x3 => ?_⟩
      have := a4 s x1 x2 ((cnd_iff s x1 x2).mpr x3)
      rw [v4 s x2, v4 b a2] at this
      exact this
  have b32 : b < 32 := by rcases e3 with ⟨a1, _⟩ | ⟨_, a2, _⟩ <;> omega
  have i400 : fm_in M (M.2.2 400 m 0) (nI b) = true := in_nI (tL_400 T.1 mm) b32 (by decide)
  have i401 : fm_in M (M.2.2 401 m 0) (nI b) = true := in_nI (tL_401 T.1 mm) b32 (by decide)
  have h33 : ∀ v, HX96_claim_33 m (nI b) m v M := fun v => ⟨i400, i401, trivial⟩
  have hH : HX96_claim m (nI c) M := by
    unfold HX96_claim HX96_claim_0
    dsimp only
    rw [e2]
    exact ⟨e1, fun _ => trivial, fun _ => ⟨i401, fun _ => h33 _, fun _ => h33 _⟩⟩
  unfold GX96_claim GX96_claim_0 GX96_claim_50 kCl
  dsimp only
  rw [e2, hb]
  dsimp only
  by_cases z : b = 0
  · rw [fi_pos ((nle0 (n := b) (by omega)).mpr (by omega)), if_pos z]
    refine ⟨M, ⟨hH, Prod.ext ?_ rfl⟩, ⟨v1, v2, v3, v4, v5, v6⟩, frK_r m M, T, I⟩
    rw [z]
    rfl
  · have bs : isBest (cndT m c 0 M) (M.1 3 (M.2.2 402 m 0)) b := e3
    have wb : ib K.2.1 b = true := by
      rcases bs with ⟨a1, _⟩ | ⟨_, a2, a3, _⟩
      · exact absurd a1 z
      · have := a3.1
        rw [v2 b a2, bz_0, Classical.not_not] at this
        exact this
    have sb : M.1 3 (M.2.2 401 m 0) b = 0 := by
      rw [v3 b b32]
      exact bz_f (fun q => I.2.2 b ⟨wb, q⟩)
    rw [fi_neg (fun y => by have := (nle0 (n := b) (by omega)).mp y; omega), if_neg z, o_cl (by omega), fi_pos sb]
    unfold GX96_claim_33 GX96_claim_50
    dsimp only
    rw [o_cl (by omega)]
    have k0 : Int32.ofInt 0 &&& 1 = Int32.ofInt 0 := rfl
    have k1 : Int32.ofInt 1 &&& 1 = Int32.ofInt 1 := rfl
    rw [k0, k1]
    have fr : FrK m M (fm_sI (fm_sI (fm_sL M 414 m 0 (M.2.1 414 m 0)) 3 (M.2.2 400 m 0) b (Int32.ofInt 0)) 3 (M.2.2 401 m 0) b (Int32.ofInt 1)) :=
      frK_A (frK_A (frK_same (frK_r m M) rfl) (Or.inr (Or.inl rfl))) (Or.inr (Or.inr (Or.inl rfl)))
    have T1 : Ty (fm_sI (fm_sI (fm_sL M 414 m 0 (M.2.1 414 m 0)) 3 (M.2.2 400 m 0) b (Int32.ofInt 0)) 3 (M.2.2 401 m 0) b (Int32.ofInt 1)) :=
      ⟨T.1, tyb_s3' (tyb_s3' (M := fm_sL M 414 m 0 (M.2.1 414 m 0)) T.2 (fun _ => Or.inl rfl)) (fun _ => Or.inr rfl)⟩
    have rd : ∀ x i, (fm_sI (fm_sI (fm_sL M 414 m 0 (M.2.1 414 m 0)) 3 (M.2.2 400 m 0) b (Int32.ofInt 0)) 3 (M.2.2 401 m 0) b (Int32.ofInt 1)).1 3 x i = if x = M.2.2 401 m 0 ∧ i = b then Int32.ofInt 1 else if x = M.2.2 400 m 0 ∧ i = b then Int32.ofInt 0 else M.1 3 x i := fun x i => by
      rw [rI]
      by_cases e : x = M.2.2 401 m 0 ∧ i = b
      · rw [if_pos ⟨rfl, e.1, e.2⟩, if_pos e]
      · rw [if_neg (fun q => e ⟨q.2.1, q.2.2⟩), if_neg e, rI]
        by_cases e' : x = M.2.2 400 m 0 ∧ i = b
        · rw [if_pos ⟨rfl, e'.1, e'.2⟩, if_pos e']
        · rw [if_neg (fun q => e' ⟨q.2.1, q.2.2⟩), if_neg e']
          rfl
    obtain ⟨q1, q2, q3⟩ := d7 _ (Or.inr (Or.inr rfl))
    obtain ⟨q4, q5, q6⟩ := d7 _ (Or.inr (Or.inl rfl))
    refine ⟨_, ⟨hH, Prod.ext (o_64 (by omega)) rfl⟩, ⟨fun s hs => ?_, fun s hs => ?_, fun s hs => ?_, fun s hs => ?_, fun s hs => ?_, fun s hs => ?_⟩, fr, T1, I.1, ?_, fun s => ?_⟩
    · show (fm_sI (fm_sI (fm_sL M 414 m 0 (M.2.1 414 m 0)) 3 (M.2.2 400 m 0) b (Int32.ofInt 0)) 3 (M.2.2 401 m 0) b (Int32.ofInt 1)).1 3 (M.2.2 399 m 0) s = _
      rw [rd, if_neg (fun q => d2 q.1), if_neg (fun q => d1 q.1)]
      exact v1 s hs
    · show (fm_sI (fm_sI (fm_sL M 414 m 0 (M.2.1 414 m 0)) 3 (M.2.2 400 m 0) b (Int32.ofInt 0)) 3 (M.2.2 401 m 0) b (Int32.ofInt 1)).1 3 (M.2.2 400 m 0) s = bz (ib (off1 K.2.1 b) s = true)
      rw [rd, if_neg (fun q => d3 q.1), ib_off b32 hs]
      by_cases e : s = b
      · rw [if_pos ⟨rfl, e⟩, decide_eq_true e, bz_f (by simp)]
      · rw [if_neg (fun q => e q.2), decide_eq_false e, v2 s hs]
        simp
    · show (fm_sI (fm_sI (fm_sL M 414 m 0 (M.2.1 414 m 0)) 3 (M.2.2 400 m 0) b (Int32.ofInt 0)) 3 (M.2.2 401 m 0) b (Int32.ofInt 1)).1 3 (M.2.2 401 m 0) s = bz (ib (K.2.2.1 ||| b1 b) s = true)
      rw [rd, ib_or, ib_b1 b32, decide_eq_true hs]
      by_cases e : s = b
      · rw [if_pos ⟨rfl, e⟩, decide_eq_true e, bz_t (by simp)]
      · rw [if_neg (fun q => e q.2), if_neg (fun q => e q.2), decide_eq_false e, v3 s hs]
        simp
    · show (fm_sI (fm_sI (fm_sL M 414 m 0 (M.2.1 414 m 0)) 3 (M.2.2 400 m 0) b (Int32.ofInt 0)) 3 (M.2.2 401 m 0) b (Int32.ofInt 1)).1 3 (M.2.2 402 m 0) s = _
      rw [rd, if_neg (fun q => q1 q.1.symm), if_neg (fun q => q4 q.1.symm)]
      exact v4 s hs
    · show (fm_sI (fm_sI (fm_sL M 414 m 0 (M.2.1 414 m 0)) 3 (M.2.2 400 m 0) b (Int32.ofInt 0)) 3 (M.2.2 401 m 0) b (Int32.ofInt 1)).1 3 (M.2.2 403 m 0) s = _
      rw [rd, if_neg (fun q => q2 q.1.symm), if_neg (fun q => q5 q.1.symm)]
      exact v5 s hs
    · show (fm_sI (fm_sI (fm_sL M 414 m 0 (M.2.1 414 m 0)) 3 (M.2.2 400 m 0) b (Int32.ofInt 0)) 3 (M.2.2 401 m 0) b (Int32.ofInt 1)).1 3 (M.2.2 404 m 0) s = _
      rw [rd, if_neg (fun q => q3 q.1.symm), if_neg (fun q => q6 q.1.symm)]
      exact v6 s hs
    · show ib (off1 K.2.1 b) 0 = false
      rw [ib_off b32 (by decide), I.2.1]
      rfl
    · show ¬ (ib (off1 K.2.1 b) s = true ∧ ib (K.2.2.1 ||| b1 b) s = true)
      rintro ⟨x1, x2⟩
      by_cases hs : s < 32
      · rw [ib_off b32 hs] at x1
        rw [ib_or, ib_b1 b32, decide_eq_true hs] at x2
        by_cases e : s = b
        · rw [decide_eq_true e] at x1
          simp at x1
        · rw [decide_eq_false e] at x1 x2
          simp at x1 x2
          exact I.2.2 s ⟨x1, x2⟩
      · rw [ib_ge _ (by omega)] at x1
        cases x1
theorem X96_readController (T : Ty M) (W : Wf M) (mm : fm_is M 99 99 m = true) (hp : M.1 395 m 0 = nI p) (h4 : p ≤ 4) (hn : n < 2147483648) (V : VKt m M K) (I : VKi K) :
    ∃ M', (HX96_readController m (lN n) M ∧ GX96_readController m (lN n) M = ((kRd p n K).1, M')) ∧ VKt m M' (kRd p n K).2 ∧ FrK m M M' ∧ Ty M' ∧ VKi (kRd p n K).2 := by
  have V0 := V
  obtain ⟨v1, v2, v3, v4, v5, v6⟩ := V
  have c1 := X96_contextAt (m := m) (M := M) (n := n) hp h4 hn (show 8192 < 2147483648 by decide) (show 0 < 128 ∧ 128 < 2147483648 by decide)
  have c2 := X96_contextAt (m := m) (M := M) (n := n) hp h4 hn (show 2097152 < 2147483648 by decide) (show 0 < 4096 ∧ 4096 < 2147483648 by decide)
  have c3 := X96_contextAt (m := m) (M := M) (n := n) hp h4 hn (show 2097156 < 2147483648 by decide) (show 0 < 4096 ∧ 4096 < 2147483648 by decide)
  have g128 : 0 ≤ lg_cmp (lN n) (Int64.ofInt 128) ↔ 128 ≤ n := o_ge hn (show 128 < 2147483648 by decide)
  have e4096 : lg_cmp (lN n) (Int64.ofInt 4096) = 0 ↔ n = 4096 := o_eq hn (show 4096 < 2147483648 by decide)
  have r4 := o_r hn 4 (by decide)
  rw [o_div hn (by decide)] at r4
  have l1 : ∀ k, cxt p 8192 128 0 n = some k → k < 8 := fun k h => by have := cxt_lt h; omega
  have l2 : ∀ k, cxt p 2097152 4096 0 n = some k → k < 8 := fun k h => by have := cxt_lt h; omega
  have l3 : ∀ k, cxt p 2097156 4096 0 n = some k → k < 8 := fun k h => by have := cxt_lt h; omega
  have n1 := wC_neg (cxt p 8192 128 0 n) (fun k h => by have := l1 k h; omega)
  have n2 := wC_neg (cxt p 2097152 4096 0 n) (fun k h => by have := l2 k h; omega)
  have n3 := wC_neg (cxt p 2097156 4096 0 n) (fun k h => by have := l3 k h; omega)
  obtain ⟨w, ⟨w1, w2⟩, w3⟩ := X96_waiting (M := M) T mm
  have we : w = K.2.1.toInt64 &&& Int64.ofInt 4294967295 := by
    apply lb_ext
    intro i hi
    rw [w3 i, lb_and, lb_sext _ _ hi, lb_mask (k := 32) (Int64.ofInt 4294967295) rfl]
    by_cases h : i < 32
    · rw [if_pos h, decide_eq_true h]
      by_cases z : i = 0
      · rw [z, I.2.1]
        rfl
      · rw [decide_eq_true (show 1 ≤ i by omega)]
        cases hb : ib K.2.1 i with
        | true =>
          rw [decide_eq_true (show ¬ M.1 3 (M.2.2 400 m 0) i = 0 by rw [v2 i h, bz_0, hb]; simp)]
          rfl
        | false =>
          rw [decide_eq_false (show ¬ ¬ M.1 3 (M.2.2 400 m 0) i = 0 by rw [v2 i h, bz_0, hb]; simp)]
          rfl
    · rw [decide_eq_false h]
      simp
  unfold HX96_readController HX96_readController_0 HX96_readController_44 GX96_readController GX96_readController_0 GX96_readController_44 GX96_readController_121
  dsimp only
  rw [show GX96_contextAt m (lN n) (Int64.ofInt 8192) (Int64.ofInt 128) M = _ from c1.2]
  dsimp only
  rw [show GX96_contextAt m (lN n) (Int64.ofInt 2097152) (Int64.ofInt 4096) M = _ from c2.2]
  dsimp only
  rw [show GX96_contextAt m (lN n) (Int64.ofInt 2097156) (Int64.ofInt 4096) M = _ from c3.2]
  dsimp only
  rw [propext g128, propext e4096, propext n1, propext n2, propext n3, w2, we, show Int64.ofInt 4 = lN 4 from rfl, o_div hn (by decide), o_32 (by omega), propext r4, o_cl (by omega)]
  have h44 : (HX96_contextAt m (lN n) (Int64.ofInt 8192) (Int64.ofInt 128) M ∧ ((cxt p 8192 128 0 n = none → (HX96_contextAt m (lN n) (Int64.ofInt 2097152) (Int64.ofInt 4096) M ∧ ((cxt p 2097152 4096 0 n = none → (HX96_contextAt m (lN n) (Int64.ofInt 2097156) (Int64.ofInt 4096) M ∧ ((cxt p 2097156 4096 0 n = none → True) ∧ (¬ cxt p 2097156 4096 0 n = none → (HX96_claim m (wC (cxt p 2097156 4096 0 n)) M ∧ True))))) ∧ (¬ cxt p 2097152 4096 0 n = none → (fm_in M (M.2.2 404 m 0) (wC (cxt p 2097152 4096 0 n)) = true ∧ True))))) ∧ (¬ cxt p 8192 128 0 n = none → (fm_in M (M.2.2 403 m 0) (wC (cxt p 8192 128 0 n)) = true ∧ True)))) := by
    refine ⟨c1.1, fun _ => ⟨c2.1, fun _ => ⟨c3.1, fun _ => trivial, fun q => ?_⟩, fun q => ?_⟩, fun q => ?_⟩
    · cases h : cxt p 2097156 4096 0 n with
      | none => exact absurd h q
      | some k =>
        obtain ⟨_, ⟨x, _⟩, _⟩ := X96_claim T W mm V0 I (l3 k h)
        exact ⟨x, trivial⟩
    · cases h : cxt p 2097152 4096 0 n with
      | none => exact absurd h q
      | some k => exact ⟨in_nI (tL_404 T.1 mm) (l2 k h) (by decide), trivial⟩
    · cases h : cxt p 8192 128 0 n with
      | none => exact absurd h q
      | some k => exact ⟨in_nI (tL_403 T.1 mm) (l1 k h) (by decide), trivial⟩
  refine Exists.imp (fun M' q => ⟨⟨⟨fun _ => ⟨w1, trivial⟩, fun _ => ⟨fun _ => h44, fun h => ⟨fun _ => ⟨in_nI (tL_402 T.1 mm) (by omega) (by decide), trivial⟩, fun _ => h44⟩⟩⟩, q.1⟩, q.2⟩) (?_ : ∃ M', _ = ((kRd p n K).1, M') ∧ VKt m M' (kRd p n K).2 ∧ FrK m M M' ∧ Ty M' ∧ VKi (kRd p n K).2)
  unfold kRd
  have rest : ¬ n = 4096 → ¬ (n % 4 = 0 ∧ n < 128) → ∃ M', fi (cxt p 8192 128 0 n = none) (fi (cxt p 2097152 4096 0 n = none) (fi (cxt p 2097156 4096 0 n = none) (Int64.ofInt 0, M) ((GX96_claim m (wC (cxt p 2097156 4096 0 n)) M).1, (GX96_claim m (wC (cxt p 2097156 4096 0 n)) M).2)) ((M.1 3 (M.2.2 404 m 0) (wC (cxt p 2097152 4096 0 n)).toNatClampNeg).toInt64, M)) ((M.1 3 (M.2.2 403 m 0) (wC (cxt p 8192 128 0 n)).toNatClampNeg).toInt64 &&& Int64.ofInt 4294967295, M) = ((match cxt p 8192 128 0 n with
  | some c => ((K.2.2.2.2.1 c).toInt64 &&& Int64.ofInt 4294967295, K)
  | none => match cxt p 2097152 4096 0 n with
    | some c => ((K.2.2.2.2.2 c).toInt64, K)
    | none => match cxt p 2097156 4096 0 n with
      | some c => kCl c K
      | none => (Int64.ofInt 0, K)).1, M') ∧ VKt m M' (match cxt p 8192 128 0 n with
  | some c => ((K.2.2.2.2.1 c).toInt64 &&& Int64.ofInt 4294967295, K)
  | none => match cxt p 2097152 4096 0 n with
    | some c => ((K.2.2.2.2.2 c).toInt64, K)
    | none => match cxt p 2097156 4096 0 n with
      | some c => kCl c K
      | none => (Int64.ofInt 0, K)).2 ∧ FrK m M M' ∧ Ty M' ∧ VKi (match cxt p 8192 128 0 n with
  | some c => ((K.2.2.2.2.1 c).toInt64 &&& Int64.ofInt 4294967295, K)
  | none => match cxt p 2097152 4096 0 n with
    | some c => ((K.2.2.2.2.2 c).toInt64, K)
    | none => match cxt p 2097156 4096 0 n with
      | some c => kCl c K
      | none => (Int64.ofInt 0, K)).2 := fun _ _ => by
    cases x1 : cxt p 8192 128 0 n with
    | some k =>
      rw [fi_neg (by simp)]
      dsimp only
      rw [show (wC (some k)).toNatClampNeg = k from o_cl (by have := l1 k x1; omega), v5 k (l1 k x1)]
      exact ⟨M, rfl, V0, frK_r m M, T, I⟩
    | none =>
      rw [fi_pos rfl]
      cases x2 : cxt p 2097152 4096 0 n with
      | some k =>
        rw [fi_neg (by simp)]
        dsimp only
        rw [show (wC (some k)).toNatClampNeg = k from o_cl (by have := l2 k x2; omega), v6 k (l2 k x2)]
        exact ⟨M, rfl, V0, frK_r m M, T, I⟩
      | none =>
        rw [fi_pos rfl]
        cases x3 : cxt p 2097156 4096 0 n with
        | none =>
          rw [fi_pos rfl]
          exact ⟨M, rfl, V0, frK_r m M, T, I⟩
        | some k =>
          rw [fi_neg (by simp)]
          obtain ⟨M', ⟨_, y2⟩, y3, y4, y5, y6⟩ := X96_claim T W mm V0 I (l3 k x3)
          dsimp only
          rw [show GX96_claim m (wC (some k)) M = _ from y2]
          exact ⟨M', rfl, y3, y4, y5, y6⟩
  by_cases h4096 : n = 4096
  · rw [fi_pos h4096, if_neg (by omega), if_pos h4096]
    exact ⟨M, rfl, V0, frK_r m M, T, I⟩
  · rw [fi_neg h4096]
    by_cases h128 : 128 ≤ n
    · rw [fi_pos h128, if_neg (by omega), if_neg h4096]
      exact rest h4096 (by omega)
    · rw [fi_neg h128]
      by_cases n4 : n % 4 = 0
      · rw [fi_pos n4, if_pos ⟨n4, by omega⟩, v4 (n / 4) (by omega)]
        exact ⟨M, rfl, V0, frK_r m M, T, I⟩
      · rw [fi_neg n4, if_neg (fun q => n4 q.1), if_neg h4096]
        exact rest h4096 (fun q => n4 q.1)
end Cn
