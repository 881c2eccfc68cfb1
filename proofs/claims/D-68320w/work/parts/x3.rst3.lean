/-! start: the twin begins, its writes in another order -/
set_option maxRecDepth 100000
section Rs3
variable {R : Rfs} {ow : Nat → Nat} {m h n cr np N : Nat} {e : Int64} {M : FM}
noncomputable def rsB (R : Rfs) (m h : Nat) (e : Int64) (M : FM) : FM :=
  fm_sI (rsWk (R 428 (R 3 (R 306 m 0) h) 0) (R 427 (R 3 (R 306 m 0) h) 0) (rsDe (R 361 (R 3 (R 305 m 0) h) 0) (R 3 (R 305 m 0) h) (rsFl (R 367 (R 3 (R 304 m 0) h) 0) (R 3 (R 304 m 0) h) (rsCo (R 346 (R 3 (R 303 m 0) h) 0) (R 3 (R 303 m 0) h) e M)))) 3 (R 307 m 0) h (Int32.ofInt 0)
noncomputable def rsA (R : Rfs) (m cr : Nat) (e : Int64) (h : Nat) (M : FM) : FM := fm_sL (rsB R m h e M) 3 (R 389 cr 0) h (Int64.ofInt 0)
noncomputable def rsS (R : Rfs) (m h : Nat) (M : FM) : FM :=
  stR (R 346 (R 3 (R 303 m 0) h) 0) (R 3 (R 303 m 0) h) 11 (Int64.ofInt 2151669760) (stR (R 346 (R 3 (R 303 m 0) h) 0) (R 3 (R 303 m 0) h) 10 (lN h) M)
/-- whose all that is -/
def OwH (ow : Nat → Nat) (R : Rfs) (m h : Nat) : Prop :=
  (ow (R 3 (R 303 m 0) h) = h + 1 ∧ ow (R 346 (R 3 (R 303 m 0) h) 0) = h + 1) ∧ (ow (R 3 (R 304 m 0) h) = h + 1 ∧ ow (R 367 (R 3 (R 304 m 0) h) 0) = h + 1) ∧
  (ow (R 3 (R 305 m 0) h) = h + 1 ∧ ow (R 361 (R 3 (R 305 m 0) h) 0) = h + 1) ∧ ow (R 427 (R 3 (R 306 m 0) h) 0) = h + 1 ∧ ow (R 428 (R 3 (R 306 m 0) h) 0) = h + 1
/-- what belongs to all -/
def OwR (ow : Nat → Nat) (R : Rfs) (m cr : Nat) : Prop :=
  (ow (R 307 m 0) = 0 ∧ ow (R 388 cr 0) = 0 ∧ ow (R 389 cr 0) = 0 ∧ ow (R 391 cr 0) = 0) ∧ (R 388 cr 0 ≠ R 389 cr 0 ∧ R 388 cr 0 ≠ R 307 m 0 ∧ R 389 cr 0 ≠ R 307 m 0 ∧ R 391 cr 0 ≠ R 307 m 0)
theorem isP_B (O : OwH ow R m h) {D : Nat → Nat → Nat → Prop} {X : FM → FM} (hX : IsP R D X) (hD : ∀ f a i, ow a = h + 1 → D f a i) (h7 : D 3 (R 307 m 0) h) : IsP R D (fun M => rsB R m h e (X M)) := by
  obtain ⟨⟨o1, o2⟩, ⟨o3, o4⟩, ⟨o5, o6⟩, o7, o8⟩ := O
  have s1 : IsP R D (fun M => rsCo (R 346 (R 3 (R 303 m 0) h) 0) (R 3 (R 303 m 0) h) e (X M)) := isP_I (isP_L (isP_z hX (fun i => hD 3 _ i o2) 32) (hD _ _ _ o1) _) (hD _ _ _ o1) _
  have s2 := isP_I (isP_L (isP_I (isP_I (isP_z s1 (fun i => hD 3 _ i o4) 32) (hD 368 _ 0 o3) (Int32.ofInt 0)) (hD 369 _ 0 o3) (Int32.ofInt 0)) (hD 370 _ 0 o3) (Int64.ofInt 0)) (hD 371 _ 0 o3) (Int32.ofInt 0)
  have s3 := isP_L (isP_L (isP_I (isP_z s2 (fun i => hD 3 _ i o6) 4096) (hD 360 _ 0 o5) (Int32.ofInt 3)) (hD 364 _ 0 o5) (Int64.ofInt 0)) (hD 365 _ 0 o5) (Int64.ofInt 0)
  have s4 := isP_z (isP_zI s3 (fun i => hD 3 _ i o7) 8) (fun i => hD 3 _ i o8) 8
  exact isP_I s4 h7 (Int32.ofInt 0)
theorem isP_A (O : OwH ow R m h) {D : Nat → Nat → Nat → Prop} {X : FM → FM} (hX : IsP R D X) (hD : ∀ f a i, ow a = h + 1 → D f a i) (h7 : D 3 (R 307 m 0) h) (h9 : D 3 (R 389 cr 0) h) : IsP R D (fun M => rsA R m cr e h (X M)) :=
  isP_L (isP_B O hX hD h7) h9 _
theorem isP_S (O : OwH ow R m h) {D : Nat → Nat → Nat → Prop} {X : FM → FM} (hX : IsP R D X) (hD : ∀ f a i, ow a = h + 1 → D f a i) : IsP R D (fun M => rsS R m h (X M)) := by
  obtain ⟨⟨o1, o2⟩, _⟩ := O
  exact isP_L (isP_I (isP_L (isP_I hX (hD _ _ _ o1) _) (hD _ _ _ o2) _) (hD _ _ _ o1) _) (hD _ _ _ o2) _
noncomputable def asN (R : Rfs) (m cr : Nat) (e : Int64) : Nat → FM → FM
  | 0, M => M
  | n + 1, M => rsA R m cr e n (asN R m cr e n M)
noncomputable def ssN (R : Rfs) (m : Nat) : Nat → FM → FM
  | 0, M => M
  | n + 1, M => rsS R m n (ssN R m n M)
noncomputable def saN (R : Rfs) (m cr : Nat) (e : Int64) : Nat → FM → FM
  | 0, M => M
  | n + 1, M => rsS R m n (rsA R m cr e n (saN R m cr e n M))
theorem asN_P {D : Nat → Nat → Nat → Prop} (hD : ∀ f a i, ow a ≠ 0 → D f a i) (h7 : ∀ i, D 3 (R 307 m 0) i) (h9 : ∀ i, D 3 (R 389 cr 0) i) : ∀ n, (∀ h, h < n → OwH ow R m h) → IsP R D (asN R m cr e n)
  | 0, _ => isP_id
  | n + 1, O => isP_A (O n (Nat.lt_succ_self n)) (asN_P hD h7 h9 n (fun h hh => O h (by omega))) (fun f a i q => hD f a i (by omega)) (h7 n) (h9 n)
theorem ssN_P {D : Nat → Nat → Nat → Prop} : ∀ n, (∀ f a i, ow a ≠ 0 → ow a ≤ n → D f a i) → (∀ h, h < n → OwH ow R m h) → IsP R D (ssN R m n)
  | 0, _, _ => isP_id
  | n + 1, hD, O => isP_S (O n (Nat.lt_succ_self n)) (ssN_P n (fun f a i q1 q2 => hD f a i q1 (by omega)) (fun h hh => O h (by omega))) (fun f a i q => hD f a i (by omega) (by omega))
theorem asN_R (O : ∀ h, h < n → OwH ow R m h) (e0 : M.2.2 = R) : (asN R m cr e n M).2.2 = R := isP_R (asN_P (ow := ow) (D := fun _ _ _ => True) (fun _ _ _ _ => trivial) (fun _ => trivial) (fun _ => trivial) n O) e0
theorem ssN_R (O : ∀ h, h < n → OwH ow R m h) (e0 : M.2.2 = R) : (ssN R m n M).2.2 = R := isP_R (ssN_P (ow := ow) (D := fun _ _ _ => True) n (fun _ _ _ _ _ => trivial) O) e0
theorem saN_e : ∀ n, (saN R m cr e n M).2.2 = M.2.2
  | 0 => rfl
  | n + 1 => saN_e n
/-- the registers of the earlier ones may be set before a later one is reset -/
theorem ss_as (OR : OwR ow R m cr) (e0 : M.2.2 = R) : ∀ n, (∀ h, h < n → OwH ow R m h) → ssN R m n (asN R m cr e n M) = saN R m cr e n M
  | 0, _ => rfl
  | n + 1, O => by
    have O' : ∀ h, h < n → OwH ow R m h := fun h hh => O h (by omega)
    have k1 : IsP R (fun _ a _ => ow a ≠ 0 ∧ ow a ≤ n) (ssN R m n) := ssN_P n (fun _ _ _ q1 q2 => ⟨q1, q2⟩) O'
    have k2 : IsP R (fun _ a _ => ow a = n + 1 ∨ ow a = 0) (rsA R m cr e n) := isP_A (O n (Nat.lt_succ_self n)) isP_id (fun _ _ _ q => Or.inl q) (Or.inr OR.1.1) (Or.inr OR.1.2.2.1)
    show rsS R m n (ssN R m n (rsA R m cr e n (asN R m cr e n M))) = rsS R m n (rsA R m cr e n (saN R m cr e n M))
    rw [isP_comm k1 k2 (fun _ a _ q1 q2 => by rcases q2 with z | z <;> omega) (asN_R O' e0), ss_as OR e0 n O']
theorem pu_as {ad : Nat → Int64} {of : Nat → Nat} {v : Nat → Int32} (OR : OwR ow R m cr) (e0 : M.2.2 = R) : ∀ n, (∀ h, h < n → OwH ow R m h) → puN cr ad of v N (asN R m cr e n M) = asN R m cr e n (puN cr ad of v N M)
  | 0, _ => rfl
  | n + 1, O => by
    have O' : ∀ h, h < n → OwH ow R m h := fun h hh => O h (by omega)
    obtain ⟨⟨r1, r2, r3, r4⟩, r5, r6, r7, r8⟩ := id OR
    have k2 : IsP R (fun f a i => ow a = n + 1 ∨ a = R 307 m 0) (rsB R m n e) := isP_B (O n (Nat.lt_succ_self n)) isP_id (fun _ _ _ q => Or.inl q) (Or.inr rfl)
    have eA := asN_R (cr := cr) (e := e) O' e0
    have eB : (rsB R m n e (asN R m cr e n M)).2.2 = R := eA
    show puN cr ad of v N (fm_sL (rsB R m n e (asN R m cr e n M)) 3 (R 389 cr 0) n (Int64.ofInt 0)) = fm_sL (rsB R m n e (asN R m cr e n (puN cr ad of v N M))) 3 (R 389 cr 0) n (Int64.ofInt 0)
    have y := puN_drop (c := cr) (h := n) (ad := ad) (of := of) (v := v) (M := rsB R m n e (asN R m cr e n M)) (by rw [eB]; exact r5) N
    rw [eB] at y
    rw [y, puN_P k2 (fun i z => z.elim (fun z => by omega) r6) (fun i z => z.elim (fun z => by omega) r7) (fun i z => z.elim (fun z => by omega) r8) eA N, pu_as OR e0 n O']
/-- what isn't at places of D stays -/
theorem isP_o {D : Nat → Nat → Nat → Prop} {X : FM → FM} (h : IsP R D X) (e0 : M.2.2 = R) {f a i : Nat} (hd : ¬ D f a i) : (X M).1 f a i = M.1 f a i ∧ (X M).2.1 f a i = M.2.1 f a i := by
  obtain ⟨p, q, h1, h2, h3⟩ := h
  rw [h3 M e0]
  have c1 : p f a i = none := Classical.byContradiction fun z => hd (h1 _ _ _ z)
  have c2 : q f a i = none := Classical.byContradiction fun z => hd (h2 _ _ _ z)
  constructor
  · show (p f a i).getD _ = _
    rw [c1]; rfl
  · show (q f a i).getD _ = _
    rw [c2]; rfl
theorem puN_1 {c : Nat} {ad : Nat → Int64} {of : Nat → Nat} {v : Nat → Int32} {f a i : Nat} (hn : ¬ (f = 3 ∧ a = M.2.2 391 c 0)) : ∀ n, (puN c ad of v n M).1 f a i = M.1 f a i
  | 0 => rfl
  | n + 1 => by
    show (if f = 3 ∧ a = (puN c ad of v n M).2.2 391 c 0 ∧ i = of n / 8 then _ else (puN c ad of v n M).1 f a i) = _
    rw [puN_R n, if_neg (fun z => hn ⟨z.1, z.2.1⟩)]
    exact puN_1 hn n
end Rs3
