/-! which processor an object belongs to -/
set_option maxRecDepth 100000
def pv_T : List (Nat × Nat) := [(12, 20), (31, 33), (39, 41), (61, 65), (75, 75), (88, 91), (94, 96), (101, 101), (910, 910), (912, 912), (917, 918), (926, 927), (933, 933)]
def pv_S : List Nat := [24, 93, 121, 175, 178, 278, 279, 295, 346, 355, 361, 362, 367, 372, 373, 374, 375, 376, 377, 378, 379, 380, 427, 428]
def pvt (t : Nat) : Bool := pv_T.any fun q => Nat.ble q.1 t && Nat.ble t q.2
/-- rows of all processors -/
def xst (t : Nat) : Bool := Nat.beq t 922 || (Nat.ble 929 t && Nat.ble t 932)
/-- a thing of one processor, by its class and what it is for -/
def pvb (t s : Nat) : Bool := pvt t || ((Nat.ble 901 t && Nat.ble t 904 && fe_mem pv_S s) || (xst t && !(fe_mem xs_S s)))
/-- never of one processor -/
def pvn (t : Nat) : Bool := !(pvt t) && (!(Nat.ble 901 t && Nat.ble t 904) && !(xst t))
def Pv (M : FM) (a : Nat) : Bool := pvb (M.2.2 0 a 0) (M.2.2 0 a 1)
theorem pvn_b {t : Nat} (h : pvn t = true) (s : Nat) : pvb t s = false := by
  unfold pvn at h
  unfold pvb
  cases h1 : pvt t <;> cases h2 : (Nat.ble 901 t && Nat.ble t 904) <;> cases h3 : xst t <;> rw [h1, h2, h3] at h <;> first | rfl | cases h
def nrg (lo hi : Nat) : List Nat := List.range' lo (hi + 1 - lo)
theorem nrg_m {lo hi t : Nat} (h1 : lo ≤ t) (h2 : t ≤ hi) : t ∈ nrg lo hi := by
  unfold nrg
  rw [List.mem_range'_1]
  omega
def chF (q : Nat × Nat × Nat × Nat × Nat) : Bool :=
  (nrg q.1 q.2.1).all pvt || ((nrg q.2.2.2.1 q.2.2.2.2).all pvn ||
    ty_S.any fun s => Nat.beq s.2.2.1 q.2.2.1 && (Nat.ble s.1 q.1 && (Nat.ble q.2.1 s.2.1 && (nrg q.2.2.2.1 q.2.2.2.2).all fun t => !(pvb t s.2.2.2))))
theorem chF_N : ty_N.all chF = true := rfl
theorem chF_Z : ty_Z.all chF = true := rfl
/-- each field has its type -/
theorem cvF : (ty_O.all fun q => (ty_N ++ ty_Z).any fun z => Nat.beq z.2.2.1 q.1 && (Nat.ble z.1 q.2.1 && Nat.ble q.2.2 z.2.1)) = true := rfl
def chE (q : Nat × Nat × Nat) : Bool := pvt q.1 || (xst q.1 || (nrg q.2.1 q.2.2).all pvn)
theorem chE_N : (ty_EN ++ ty_EZ).all chE = true := rfl
theorem cvE : ((nrg 910 933).all fun t => (ty_EN ++ ty_EZ).any fun e => Nat.beq e.1 t) = true := rfl
theorem chE_0 : (ty_EN ++ ty_EZ).all (fun e => Nat.ble 1 e.2.1) = true := rfl
theorem chF_0 : (ty_N ++ ty_Z).all (fun e => Nat.ble 1 e.2.2.2.1) = true := rfl
theorem pv_0 {M : FM} (W : Wf M) {a : Nat} (h : M.2.2 0 a 0 = 0) (h1 : a = 0 ∨ fm_nx M ≤ a) : Pv M a = false := by
  unfold Pv
  rw [h]
  rfl
section Np
variable {M : FM} {f a i : Nat}
/-- what stands in a field has its class -/
theorem rp_T (T : TyR M.2.2) (hO : rO f (M.2.2 0 a 0) (M.2.2 0 a 0) = true) :
    ∃ q ∈ ty_N ++ ty_Z, q.2.2.1 = f ∧ q.1 ≤ M.2.2 0 a 0 ∧ M.2.2 0 a 0 ≤ q.2.1 ∧ (M.2.2 f a 0 = 0 ∨ (q.2.2.2.1 ≤ M.2.2 0 (M.2.2 f a 0) 0 ∧ M.2.2 0 (M.2.2 f a 0) 0 ≤ q.2.2.2.2)) := by
  unfold rO at hO
  rw [List.any_eq_true] at hO
  obtain ⟨o, ho, h⟩ := hO
  rw [Bool.and_eq_true, Bool.and_eq_true] at h
  obtain ⟨h1, h2, h3⟩ := h
  have hc := List.all_eq_true.mp cvF o ho
  rw [List.any_eq_true] at hc
  obtain ⟨q, hq, h⟩ := hc
  rw [Bool.and_eq_true, Bool.and_eq_true] at h
  obtain ⟨k1, k2, k3⟩ := h
  have h1 := Nat.eq_of_beq_eq_true h1
  have k1 := Nat.eq_of_beq_eq_true k1
  have h2 := Nat.le_of_ble_eq_true h2
  have h3 := Nat.le_of_ble_eq_true h3
  have k2 := Nat.le_of_ble_eq_true k2
  have k3 := Nat.le_of_ble_eq_true k3
  have g : fr M.2.2 q.1 q.2.1 a = true := fm_isi (M := M) (by omega) (by omega)
  refine ⟨q, hq, by omega, by omega, by omega, ?_⟩
  have ef : q.2.2.1 = f := by omega
  rcases List.mem_append.mp hq with z | z
  · have := fm_isd (M := M) (T.1 q z a g)
    rw [ef] at this
    exact Or.inr this
  · by_cases c : M.2.2 f a 0 = 0
    · exact Or.inl c
    · have := fm_isd (M := M) (T.2.1 q z a g (by rw [ef]; exact c))
      rw [ef] at this
      exact Or.inr this
/-- what stands in a row has its class -/
theorem rp_E (T : TyR M.2.2) (h1 : 910 ≤ M.2.2 0 a 0) (h2 : M.2.2 0 a 0 ≤ 933) (hi : i < M.2.2 1 a 0) :
    ∃ q ∈ ty_EN ++ ty_EZ, q.1 = M.2.2 0 a 0 ∧ (M.2.2 3 a i = 0 ∨ (q.2.1 ≤ M.2.2 0 (M.2.2 3 a i) 0 ∧ M.2.2 0 (M.2.2 3 a i) 0 ≤ q.2.2)) := by
  have hc := List.all_eq_true.mp cvE _ (nrg_m h1 h2)
  rw [List.any_eq_true] at hc
  obtain ⟨q, hq, h⟩ := hc
  have h := Nat.eq_of_beq_eq_true h
  have g : fr M.2.2 q.1 q.1 a = true := fm_isi (M := M) (by omega) (by omega)
  refine ⟨q, hq, h, ?_⟩
  rcases List.mem_append.mp hq with z | z
  · exact Or.inr (fm_isd (M := M) (T.2.2.2.1 q z a i g hi))
  · by_cases c : M.2.2 3 a i = 0
    · exact Or.inl c
    · exact Or.inr (fm_isd (M := M) (T.2.2.2.2.1 q z a i g hi c))
theorem pv_z (W : Wf M) {v : Nat} (h : v = 0) : Pv M v = false := pv_0 W (by rw [h]; exact W.2.2.1) (Or.inl h)
/-- nothing of one processor hangs on what belongs to all -/
theorem np (T : TyR M.2.2) (W : Wf M) (h : rp M f a i) (n : Pv M a = false) (x : ¬ (f = 3 ∧ fe_mem xs_S (M.2.2 0 a 1) = true)) : Pv M (M.2.2 f a i) = false := by
  have hnp : pvt (M.2.2 0 a 0) = false := by
    unfold Pv pvb at n
    rw [Bool.or_eq_false_iff] at n
    exact n.1
  rcases h with ⟨h4, rfl, hO⟩ | ⟨rfl, h1, h2, hi⟩
  · obtain ⟨q, hq, ef, k1, k2, hv⟩ := rp_T T hO
    rcases hv with hv | ⟨v1, v2⟩
    · exact pv_z W hv
    · have hc : chF q = true := by
        rcases List.mem_append.mp hq with z | z
        · exact List.all_eq_true.mp chF_N q z
        · exact List.all_eq_true.mp chF_Z q z
      unfold chF at hc
      rw [Bool.or_eq_true, Bool.or_eq_true] at hc
      rcases hc with hc | hc | hc
      · have := List.all_eq_true.mp hc _ (nrg_m k1 k2)
        rw [hnp] at this
        cases this
      · exact pvn_b (List.all_eq_true.mp hc _ (nrg_m v1 v2)) _
      · rw [List.any_eq_true] at hc
        obtain ⟨s, hs, h⟩ := hc
        rw [Bool.and_eq_true, Bool.and_eq_true, Bool.and_eq_true] at h
        obtain ⟨s1, s2, s3, s4⟩ := h
        have s1 := Nat.eq_of_beq_eq_true s1
        have s2 := Nat.le_of_ble_eq_true s2
        have s3 := Nat.le_of_ble_eq_true s3
        have := W.2.1.1 s hs a (fm_isi (by omega) (by omega))
        rw [show s.2.2.1 = f by omega] at this
        rcases this with z | ⟨_, z⟩
        · exact pv_z W z
        · have hb := List.all_eq_true.mp s4 _ (nrg_m v1 v2)
          unfold Pv
          rw [z]
          revert hb
          cases pvb (M.2.2 0 (M.2.2 f a 0) 0) s.2.2.2
          · intro _; rfl
          · intro q; cases q
  · obtain ⟨q, hq, et, hv⟩ := rp_E T h1 (W.2.1.2.2 a) hi
    rcases hv with hv | ⟨v1, v2⟩
    · exact pv_z W hv
    · have hc := List.all_eq_true.mp chE_N q hq
      unfold chE at hc
      rw [Bool.or_eq_true, Bool.or_eq_true, et] at hc
      rcases hc with hc | hc | hc
      · rw [hnp] at hc; cases hc
      · exfalso
        unfold Pv pvb at n
        rw [Bool.or_eq_false_iff, Bool.or_eq_false_iff, hc] at n
        have n2 := n.2.2
        cases e : fe_mem xs_S (M.2.2 0 a 1) with
        | true => exact x ⟨rfl, e⟩
        | false => rw [e] at n2; cases n2
      · exact pvn_b (List.all_eq_true.mp hc _ (nrg_m v1 v2)) _
/-- what stands somewhere was made -/
theorem rp_lt (T : TyR M.2.2) (W : Wf M) (h : rp M f a i) : M.2.2 f a i = 0 ∨ M.2.2 0 (M.2.2 f a i) 0 ≠ 0 := by
  rcases h with ⟨h4, rfl, hO⟩ | ⟨rfl, h1, h2, hi⟩
  · obtain ⟨q, hq, ef, k1, k2, hv⟩ := rp_T T hO
    rcases hv with hv | ⟨v1, v2⟩
    · exact Or.inl hv
    · have := Nat.le_of_ble_eq_true (List.all_eq_true.mp chF_0 q hq)
      exact Or.inr (by omega)
  · obtain ⟨q, hq, et, hv⟩ := rp_E T h1 (W.2.1.2.2 a) hi
    rcases hv with hv | ⟨v1, v2⟩
    · exact Or.inl hv
    · have := Nat.le_of_ble_eq_true (List.all_eq_true.mp chE_0 q hq)
      exact Or.inr (by omega)
theorem rf_lt (T : TyR M.2.2) (W : Wf M) (hf : 3 ≤ f) : M.2.2 f a i < fm_nx M := by
  have h1 := W.2.2.2
  by_cases c : M.2.2 f a i = 0
  · omega
  · rcases rp_lt T W (W.2.1.2.1 f a i hf c) with z | z
    · exact absurd z c
    · exact wf_lt W z
end Np
/-- ow says which processor each object belongs to (0: to none; h + 1: to h) -/
def Own (ow : Nat → Nat) (M : FM) : Prop :=
  (∀ a, Pv M a = true ↔ ow a ≠ 0) ∧ (∀ a, a < 1000 → ow a = 0) ∧
  (∀ f a i, 3 ≤ f → ow a ≠ 0 → ow (M.2.2 f a i) = 0 ∨ ow (M.2.2 f a i) = ow a) ∧
  (∀ a i, fe_mem xs_S (M.2.2 0 a 1) = true → ow a = 0 → ow (M.2.2 3 a i) = 0 ∨ ow (M.2.2 3 a i) = i + 1)
/-- what processor h may reach -/
def Zo (ow : Nat → Nat) (N h a : Nat) : Prop := N ≤ a ∨ ow a = 0 ∨ ow a = h + 1
section Own
variable {ow : Nat → Nat} {M M' : FM} {h : Nat} {S : Nat → Prop}
theorem own_0 (O : Own ow M) {a : Nat} (hp : Pv M a = false) : ow a = 0 := by
  by_cases c : ow a = 0
  · exact c
  · rw [(O.1 a).mpr c] at hp
    cases hp
theorem own_lt (O : Own ow M) (W : Wf M) {a : Nat} (hp : ow a ≠ 0) : a < fm_nx M := by
  rcases Nat.lt_or_ge a (fm_nx M) with g | g
  · exact g
  · exact absurd (own_0 O (pv_0 W (W.1 a g 0 0).2.2 (Or.inr g))) hp
theorem own_wi (O : Own ow M) (T : Ty M) (W : Wf M) : WI (Zo ow (fm_nx M) h) h (fm_nx M) M := by
  refine ⟨W, fun f a i hf za hi => ?_, Nat.le_refl _, fun a q => Or.inl q, fun a q => Or.inr (Or.inl (O.2.1 a q))⟩
  by_cases c : M.2.2 f a i = 0
  · rw [c]
    exact Or.inr (Or.inl (O.2.1 0 (by decide)))
  · have hr := W.2.1.2.1 f a i (by omega) c
    by_cases c0 : ow a = 0
    · by_cases x : f = 3 ∧ fe_mem xs_S (M.2.2 0 a 1) = true
      · have e := hi x.1 x.2
        rw [x.1, e]
        exact Or.inr (O.2.2.2 a h x.2 c0)
      · refine Or.inr (Or.inl (own_0 O (np T.1 W hr ?_ x)))
        cases e : Pv M a with
        | false => rfl
        | true => exact absurd c0 ((O.1 a).mp e)
    · have e : ow a = h + 1 := by
        rcases za with z | z | z
        · exact absurd (own_lt O W c0) (by omega)
        · exact absurd z c0
        · exact z
      have := O.2.2.1 f a i (by omega) c0
      rw [e] at this
      exact Or.inr this
/-- the owners behind a call of processor h -/
def owx (ow : Nat → Nat) (h N : Nat) (M' : FM) (a : Nat) : Nat := if a < N then ow a else if Pv M' a = true then h + 1 else 0
theorem owx_lt {N a : Nat} (q : a < N) : owx ow h N M' a = ow a := if_pos q
theorem own_fr (k : Wk S (Zo ow (fm_nx M) h) h (fm_nx M) M M') {a : Nat} (ha : a < fm_nx M) (h0 : ow a ≠ 0) (h1 : ow a ≠ h + 1) {f : Nat} (hf : 3 ≤ f) :
    M'.1 f a = M.1 f a ∧ M'.2.1 f a = M.2.1 f a ∧ M'.2.2 f a = M.2.2 f a :=
  k.2.2.2 f a ha hf (fun _ z => by
    rcases z with z | z | z
    · omega
    · exact h0 z
    · exact h1 z)
theorem own_k (O : Own ow M) (T : Ty M) (W : Wf M) (k : Wk S (Zo ow (fm_nx M) h) h (fm_nx M) M M') (hS : ∀ s, fe_mem xs_S s = true → ¬ S (1000 + s)) : Own (owx ow h (fm_nx M) M') M' := by
  have hxn : ∀ a, fm_nx M ≤ a → ¬ fe_mem xs_S (M'.2.2 0 a 1) = true := fun a q z => hS _ z (k.2.2.1.2 a q z)
  have hzo : ∀ v, Zo ow (fm_nx M) h v → owx ow h (fm_nx M) M' v = 0 ∨ owx ow h (fm_nx M) M' v = h + 1 := by
    intro v z
    unfold owx
    by_cases c : v < fm_nx M
    · rw [if_pos c]
      rcases z with z | z
      · omega
      · exact z
    · rw [if_neg c]
      by_cases d : Pv M' v = true
      · rw [if_pos d]; exact Or.inr rfl
      · rw [if_neg d]; exact Or.inl rfl
  have h1000 := W.2.2.2
  refine ⟨fun a => ?_, fun a q => ?_, fun f a i hf ha => ?_, fun a i hx ha => ?_⟩
  · by_cases c : a < fm_nx M
    · rw [owx_lt c, ← O.1 a]
      unfold Pv
      rw [(kt k c).1]
    · unfold owx
      rw [if_neg c]
      cases e : Pv M' a with
      | true => exact ⟨fun _ => by rw [if_pos rfl]; omega, fun _ => rfl⟩
      | false => exact ⟨(fun z => by cases z), (fun z => absurd (if_neg (fun z => by cases z)) z)⟩
  · rw [owx_lt (by omega)]
    exact O.2.1 a q
  · by_cases c : a < fm_nx M
    · rw [owx_lt c] at ha ⊢
      have hold : (M'.2.2 f a = M.2.2 f a) → owx ow h (fm_nx M) M' (M'.2.2 f a i) = 0 ∨ owx ow h (fm_nx M) M' (M'.2.2 f a i) = ow a := fun e => by
        rw [e, owx_lt (rf_lt T.1 W hf)]
        exact O.2.2.1 f a i hf ha
      by_cases g : ow a = h + 1
      · by_cases x : f = 3 ∧ fe_mem xs_S (M'.2.2 0 a 1) = true
        · refine hold (k.2.2.2 f a c hf (fun q _ => ?_)).2.2
          unfold lcn at q
          rw [if_pos x.1] at q
          have x2 := x.2
          rw [(kt k c).1] at x2
          exact hS _ x2 q
        · have := hzo _ (k.1.2.1 f a i (by omega) (Or.inr (Or.inr g)) (fun q1 q2 => absurd ⟨q1, q2⟩ x))
          rw [g]
          exact this
      · exact hold (own_fr k c ha g hf).2.2
    · have e : owx ow h (fm_nx M) M' a = h + 1 := by
        unfold owx at ha ⊢
        rw [if_neg c] at ha ⊢
        by_cases d : Pv M' a = true
        · rw [if_pos d]
        · rw [if_neg d] at ha
          exact absurd rfl ha
      rw [e]
      exact hzo _ (k.1.2.1 f a i (by omega) (Or.inl (by omega)) (fun _ q2 => absurd q2 (hxn a (by omega))))
  · by_cases c : a < fm_nx M
    · rw [owx_lt c] at ha
      rw [(kt k c).1] at hx
      have e := (k.2.2.2 3 a c (by omega) (fun q _ => hS _ hx (by unfold lcn at q; rw [if_pos rfl] at q; exact q))).2.2
      rw [e, owx_lt (rf_lt T.1 W (by omega))]
      exact O.2.2.2 a i hx ha
    · exact absurd hx (hxn a (by omega))
end Own
