/-! RAM stays where others are written -/
set_option maxRecDepth 100000
theorem i_m1 (x : Int32) : x - Int32.ofInt 1 = x + Int32.ofInt (-1) := Int32.sub_eq_add_neg ..
theorem wf_eq {M N : FM} (h : N.2.2 = M.2.2) (h1 : ∀ a f i, M.2.2 0 a 0 = 0 → N.1 f a i = M.1 f a i ∧ N.2.1 f a i = M.2.1 f a i) (W : Wf M) : Wf N := by
  obtain ⟨w1, ⟨w2, w2j⟩, w3, w4⟩ := W
  refine ⟨fun a ha f i => ?_, ⟨fun q hq a ha => ?_, fun f a i hf hne => rp_k (M := M) (by rw [h]) (by rw [h]) (w2j.1 f a i hf (by rw [← h]; exact hne)), by rw [h]; exact w2j.2⟩, by rw [h]; exact w3, by unfold fm_nx; rw [h]; exact w4⟩
  · have ha' : fm_nx M ≤ a := by unfold fm_nx at *; rw [h] at ha; exact ha
    have hz := w1 a ha'
    obtain ⟨q1, q2⟩ := h1 a f i (hz 0 0).2.2
    rw [h, q1, q2]
    exact hz f i
  · unfold fm_is Sf at *
    rw [h] at *
    exact w2 q hq a ha
/-- RAM is the same -/
def RamQ (r : Nat) (M N : FM) : Prop := RamI r N ∧ N.1 202 r 0 = M.1 202 r 0 ∧ (∀ q, rsv N r q = rsv M r q) ∧ (∀ i, i < 33554432 → cmb N r i = cmb M r i) ∧ (∀ k, cwr N r k = cwr M r k) ∧
  ∀ p, p < 4 → N.1 208 (rsv M r p) 0 = M.1 208 (rsv M r p) 0 ∧ N.2.1 207 (rsv M r p) 0 = M.2.1 207 (rsv M r p) 0
theorem ramQ_r {r : Nat} {M : FM} (R : RamI r M) : RamQ r M M := ⟨R, rfl, fun _ => rfl, fun _ _ => rfl, fun _ => rfl, fun _ _ => ⟨rfl, rfl⟩⟩
theorem ramQ_t {r : Nat} {M N X : FM} (h : RamQ r M N) (k : RamQ r N X) : RamQ r M X := by
  obtain ⟨_, h2, h3, h4, h5, h6⟩ := h
  obtain ⟨k1, k2, k3, k4, k5, k6⟩ := k
  refine ⟨k1, k2.trans h2, fun q => (k3 q).trans (h3 q), fun i hi => (k4 i hi).trans (h4 i hi), fun p => (k5 p).trans (h5 p), fun p hp => ?_⟩
  have a := h6 p hp
  have b := k6 p hp
  rw [h3] at b
  exact ⟨b.1.trans a.1, b.2.trans a.2⟩
theorem rel_q {r c : Nat} {M N Mt : FM} (R : RelRam r c M Mt) (Q : RamQ r M N) : RelRam r c N Mt := by
  obtain ⟨r1, r2, r3, r4, r5, r6⟩ := R
  obtain ⟨q1, q2, q3, q4, _, q6⟩ := Q
  refine ⟨q1, r2, q2.trans r3, fun p q hp hq h => r4 p q hp hq (by rw [← q3, ← q3]; exact h), fun i hi => (q4 i hi).trans (r5 i hi), fun p hp => ?_⟩
  obtain ⟨a1, a2⟩ := q6 p hp
  rw [q3, a1, a2]
  exact r6 p hp
theorem evo_q {r c : Nat} {M N X : FM} (h : RamQ r M N) (k : Evo r c N X) : Evo r c M X := by
  have e := evo_t (evo_same (fun p _ => h.2.2.2.2.1 p) h.2.2.2.1) k
  rw [Nat.zero_add] at e
  exact e
theorem evo_q' {r c : Nat} {M N X : FM} (k : Evo r c M N) (h : RamQ r N X) : Evo r c M X :=
  evo_t k (evo_same (fun p _ => h.2.2.2.2.1 p) h.2.2.2.1)
/-- what doesn't write RAM's places keeps RAM -/
def RFr (S : Nat → Prop) : Prop := ¬ S 201 ∧ ¬ S 202 ∧ ¬ S 203 ∧ ¬ S 204 ∧ ¬ S 205 ∧ ¬ S 207 ∧ ¬ S 208 ∧ ¬ S 1201 ∧ ¬ S 1203 ∧ ¬ S 1204 ∧ ¬ S 1205
theorem ramQ_k {r hx : Nat} {M N : FM} {S Z : Nat → Prop} (k : Wk S Z hx (fm_nx M) M N) (hS : RFr S) (TN : Ty N) (R : RamI r M) : RamQ r M N := by
  obtain ⟨s1, s2, s3, s4, s5, s7, s8, a1, a3, a4, a5⟩ := hS
  obtain ⟨T, W, n, P⟩ := R
  have lr : r < fm_nx M := wf_lt W (fm_ist rfl n)
  have e := fun f (hf : Nat.ble 4 f = true) (hs : ¬ S f) => kf (f := f) (a := r) k hf hs lr
  have e203 := congrFun (e 203 rfl s3).2.2 0
  have e204 := congrFun (e 204 rfl s4).2.2 0
  have e205 := congrFun (e 205 rfl s5).2.2 0
  have n203 := tN_203 T.1 n
  have n204 := tN_204 T.1 n
  have n205 := tN_205 T.1 n
  have k203 := ka k (sS_203 W n) (wf_n0 W (fm_ist rfl n203)) a3 (wf_lt W (fm_ist rfl n203))
  have k204 := ka k (sS_204 W n) (wf_n0 W (fm_ist rfl n204)) a4 (wf_lt W (fm_ist rfl n204))
  have k205 := ka k (sS_205 W n) (wf_n0 W (fm_ist rfl n205)) a5 (wf_lt W (fm_ist rfl n205))
  have ec : ∀ p, cpg N r p = cpg M r p := fun p => by
    unfold cpg
    rw [e203]
    exact congrFun k203.2.2 p
  have np : ∀ p, p < 1024 → cpg M r p ≠ 0 → fm_is M 72 72 (cpg M r p) = true := fun p hp h => cpg_is T n hp h
  have e201 : ∀ p, p < 1024 → cpg M r p ≠ 0 → N.2.2 201 (cpg M r p) 0 = M.2.2 201 (cpg M r p) 0 := fun p hp h => congrFun (kf (f := 201) k rfl s1 (wf_lt W (fm_ist rfl (np p hp h)))).2.2 0
  have er : ∀ q, rsv N r q = rsv M r q := fun q => by
    unfold rsv
    rw [e205]
    exact congrFun k205.2.2 q
  refine ⟨⟨TN, k.1.1, kis k W rfl n, fun p q hp hq h1 h2 h => ?_⟩, congrFun (e 202 rfl s2).1 0, er, fun i hi => ?_, fun p => ?_, fun p hp => ?_⟩
  · rw [ec] at h1 h2 h
    rw [ec, e201 p hp h1, e201 q hq h2] at h
    exact P p q hp hq h1 h2 h
  · unfold cmb
    rw [ec]
    by_cases q : cpg M r (i / 32768) = 0
    · rw [if_pos q, if_pos q]
    · rw [if_neg q, if_neg q]
      have hp : i / 32768 < 1024 := by omega
      have n1 := np _ hp q
      have n2 := tN_201 T.1 n1
      rw [e201 _ hp q, (ka k (sS_201 W n1) (wf_n0 W (fm_ist rfl n2)) a1 (wf_lt W (fm_ist rfl n2))).2.1]
  · unfold cwr
    rw [e204, k204.2.1]
  · have n3 : fm_is M 74 74 (rsv M r p) = true := rsv_is T n hp
    have l3 := wf_lt W (fm_ist rfl n3)
    exact ⟨congrFun (kf (f := 208) k rfl s8 l3).1 0, congrFun (kf (f := 207) k rfl s7 l3).2.1 0⟩
theorem and_0 {x v : Int32} {j : Nat} (hk : j < 32) (hv : ui v = 2 ^ j) : x &&& v = 0 ↔ ¬ ib x j = true := by
  rw [and_bit x j v hk hv]
  have vz : ¬ v = 0 := fun q => by
    rw [q] at hv
    have := Nat.two_pow_pos j
    have z : ui (0 : Int32) = 0 := rfl
    omega
  by_cases h : ib x j = true
  · rw [fi_pos h]
    exact ⟨fun q => absurd q vz, fun q => absurd h q⟩
  · rw [fi_neg h]
    exact ⟨fun _ => h, fun _ => rfl⟩
