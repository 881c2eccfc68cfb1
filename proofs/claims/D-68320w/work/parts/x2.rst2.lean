/-! start: what is written at known places may be written earlier or later -/
set_option maxRecDepth 100000
/-- memory with some places written -/
def pat (p : Nat → Nat → Nat → Option Int32) (q : Nat → Nat → Nat → Option Int64) (M : FM) : FM := (fun f a i => (p f a i).getD (M.1 f a i), fun f a i => (q f a i).getD (M.2.1 f a i), M.2.2)
/-- X writes the same at places of D, whatever memory is -/
def IsP (R : Rfs) (D : Nat → Nat → Nat → Prop) (X : FM → FM) : Prop := ∃ p q, (∀ f a i, p f a i ≠ none → D f a i) ∧ (∀ f a i, q f a i ≠ none → D f a i) ∧ ∀ M : FM, M.2.2 = R → X M = pat p q M
section Ip
variable {R : Rfs} {D E : Nat → Nat → Nat → Prop} {X Y : FM → FM} {M : FM} {f a i n H : Nat}
theorem isP_id : IsP R D (fun M => M) := ⟨fun _ _ _ => none, fun _ _ _ => none, fun _ _ _ h => absurd rfl h, fun _ _ _ h => absurd rfl h, fun _ _ => rfl⟩
theorem isP_R (h : IsP R D X) (e : M.2.2 = R) : (X M).2.2 = R := by
  obtain ⟨p, q, _, _, k⟩ := h
  rw [k M e]
  exact e
theorem isP_I (h : IsP R D X) (d : D f a i) (v : Int32) : IsP R D (fun M => fm_sI (X M) f a i v) := by
  obtain ⟨p, q, h1, h2, k⟩ := h
  refine ⟨fun g b j => if g = f ∧ b = a ∧ j = i then some v else p g b j, q, fun g b j hn => ?_, h2, fun M e => ?_⟩
  · dsimp only at hn
    by_cases c : g = f ∧ b = a ∧ j = i
    · obtain ⟨rfl, rfl, rfl⟩ := c
      exact d
    · rw [if_neg c] at hn
      exact h1 g b j hn
  · dsimp only
    rw [k M e]
    refine Prod.ext ?_ rfl
    funext g b j
    show (if g = f ∧ b = a ∧ j = i then v else (p g b j).getD (M.1 g b j)) = (if g = f ∧ b = a ∧ j = i then some v else p g b j).getD (M.1 g b j)
    by_cases c : g = f ∧ b = a ∧ j = i
    · rw [if_pos c, if_pos c]; rfl
    · rw [if_neg c, if_neg c]
theorem isP_L (h : IsP R D X) (d : D f a i) (v : Int64) : IsP R D (fun M => fm_sL (X M) f a i v) := by
  obtain ⟨p, q, h1, h2, k⟩ := h
  refine ⟨p, fun g b j => if g = f ∧ b = a ∧ j = i then some v else q g b j, h1, fun g b j hn => ?_, fun M e => ?_⟩
  · dsimp only at hn
    by_cases c : g = f ∧ b = a ∧ j = i
    · obtain ⟨rfl, rfl, rfl⟩ := c
      exact d
    · rw [if_neg c] at hn
      exact h2 g b j hn
  · dsimp only
    rw [k M e]
    refine Prod.ext rfl (Prod.ext ?_ rfl)
    funext g b j
    show (if g = f ∧ b = a ∧ j = i then v else (q g b j).getD (M.2.1 g b j)) = (if g = f ∧ b = a ∧ j = i then some v else q g b j).getD (M.2.1 g b j)
    by_cases c : g = f ∧ b = a ∧ j = i
    · rw [if_pos c, if_pos c]; rfl
    · rw [if_neg c, if_neg c]
theorem isP_z (h : IsP R D X) (d : ∀ i, D 3 H i) (n : Nat) : IsP R D (fun M => rz H (X M) n) := by
  induction n with
  | zero =>
    have : (fun M => rz H (X M) 0) = X := funext fun M => rz_0 H (X M)
    rw [this]
    exact h
  | succ n ih =>
    have : (fun M => rz H (X M) (n + 1)) = fun M => fm_sL (rz H (X M) n) 3 H n (Int64.ofInt 0) := funext fun M => (rz_s H (X M) n).symm
    rw [this]
    exact isP_L ih (d n) _
theorem isP_zI (h : IsP R D X) (d : ∀ i, D 3 H i) (n : Nat) : IsP R D (fun M => rzI H (X M) n) := by
  induction n with
  | zero =>
    have : (fun M => rzI H (X M) 0) = X := funext fun M => rzI_0 H (X M)
    rw [this]
    exact h
  | succ n ih =>
    have : (fun M => rzI H (X M) (n + 1)) = fun M => fm_sI (rzI H (X M) n) 3 H n (Int32.ofInt 0) := funext fun M => (rzI_s H (X M) n).symm
    rw [this]
    exact isP_I ih (d n) _
/-- two that write apart -/
theorem isP_comm (h : IsP R D X) (k : IsP R E Y) (hd : ∀ f a i, D f a i → E f a i → False) (e : M.2.2 = R) : X (Y M) = Y (X M) := by
  have e1 := isP_R k e
  have e2 := isP_R h e
  obtain ⟨p, q, h1, h2, h3⟩ := h
  obtain ⟨p', q', k1, k2, k3⟩ := k
  rw [h3 _ e1, k3 _ e2, h3 _ e, k3 _ e]
  refine Prod.ext ?_ (Prod.ext ?_ rfl)
  · funext f a i
    show (p f a i).getD ((p' f a i).getD (M.1 f a i)) = (p' f a i).getD ((p f a i).getD (M.1 f a i))
    cases c : p f a i with
    | none => rfl
    | some v =>
      cases c' : p' f a i with
      | none => rfl
      | some v' => exact (hd f a i (h1 f a i (by rw [c]; exact Option.some_ne_none v)) (k1 f a i (by rw [c']; exact Option.some_ne_none v'))).elim
  · funext f a i
    show (q f a i).getD ((q' f a i).getD (M.2.1 f a i)) = (q' f a i).getD ((q f a i).getD (M.2.1 f a i))
    cases c : q f a i with
    | none => rfl
    | some v =>
      cases c' : q' f a i with
      | none => rfl
      | some v' => exact (hd f a i (h2 f a i (by rw [c]; exact Option.some_ne_none v)) (k2 f a i (by rw [c']; exact Option.some_ne_none v'))).elim
/-- a byte that is put, and what is written elsewhere -/
theorem isP_put {c o : Nat} {x : Int64} {v : Int32} (h : IsP R D X) (d8 : ∀ i, ¬ D 3 (R 388 c 0) i) (d9 : ∀ i, ¬ D 3 (R 389 c 0) i) (d1 : ∀ i, ¬ D 3 (R 391 c 0) i) (e : M.2.2 = R) : pbM c x o v (X M) = X (pbM c x o v M) := by
  have e1 : (pbM c x o v M).2.2 = R := e
  obtain ⟨p, q, h1, h2, h3⟩ := h
  rw [h3 M e, h3 _ e1]
  have q8 : ∀ i, q 3 (R 388 c 0) i = none := fun i => Classical.byContradiction fun z => d8 i (h2 _ _ _ z)
  have q9 : ∀ i, q 3 (R 389 c 0) i = none := fun i => Classical.byContradiction fun z => d9 i (h2 _ _ _ z)
  have p1 : ∀ i, p 3 (R 391 c 0) i = none := fun i => Classical.byContradiction fun z => d1 i (h1 _ _ _ z)
  have r8 : (pat p q M).2.1 3 (R 388 c 0) (o / 8) = M.2.1 3 (R 388 c 0) (o / 8) := by
    show (q 3 (R 388 c 0) (o / 8)).getD _ = _
    rw [q8]; rfl
  have r1 : (pat p q M).1 3 (R 391 c 0) (o / 8) = M.1 3 (R 391 c 0) (o / 8) := by
    show (p 3 (R 391 c 0) (o / 8)).getD _ = _
    rw [p1]; rfl
  have r9 : ∀ i, (pat p q M).2.1 3 (R 389 c 0) i = M.2.1 3 (R 389 c 0) i := fun i => by
    show (q 3 (R 389 c 0) i).getD _ = _
    rw [q9]; rfl
  have eR : (pat p q M).2.2 = R := e
  unfold pbM
  rw [eR, e, r8, r1]
  refine Prod.ext ?_ (Prod.ext ?_ rfl)
  · funext f a i
    show (if f = 3 ∧ a = R 391 c 0 ∧ i = o / 8 then M.1 3 (R 391 c 0) (o / 8) + Int32.ofInt 1 else (p f a i).getD (M.1 f a i)) = (p f a i).getD (if f = 3 ∧ a = R 391 c 0 ∧ i = o / 8 then M.1 3 (R 391 c 0) (o / 8) + Int32.ofInt 1 else M.1 f a i)
    by_cases z : f = 3 ∧ a = R 391 c 0 ∧ i = o / 8
    · obtain ⟨rfl, rfl, rfl⟩ := z
      rw [p1, if_pos ⟨rfl, rfl, rfl⟩]
      exact (if_pos ⟨rfl, rfl, rfl⟩).symm
    · rw [if_neg z, if_neg z]
  · funext f a i
    generalize pbw (M.2.1 3 (R 388 c 0) (o / 8)) o v = w
    show fi (f = 3 ∧ a = R 389 c 0 ∧ i < 4 ∧ hit x (if 3 = 3 ∧ R 389 c 0 = R 388 c 0 ∧ i = o / 8 then w else (pat p q M).2.1 3 (R 389 c 0) i)) (Int64.ofInt 0) (if f = 3 ∧ a = R 388 c 0 ∧ i = o / 8 then w else (q f a i).getD (M.2.1 f a i)) =
      (q f a i).getD (fi (f = 3 ∧ a = R 389 c 0 ∧ i < 4 ∧ hit x (if 3 = 3 ∧ R 389 c 0 = R 388 c 0 ∧ i = o / 8 then w else M.2.1 3 (R 389 c 0) i)) (Int64.ofInt 0) (if f = 3 ∧ a = R 388 c 0 ∧ i = o / 8 then w else M.2.1 f a i))
    rw [r9]
    generalize hit x (if 3 = 3 ∧ R 389 c 0 = R 388 c 0 ∧ i = o / 8 then w else M.2.1 3 (R 389 c 0) i) = hh
    by_cases z9 : f = 3 ∧ a = R 389 c 0
    · obtain ⟨rfl, rfl⟩ := z9
      rw [q9]; rfl
    · rw [fi_neg (fun z => z9 ⟨z.1, z.2.1⟩), fi_neg (fun z => z9 ⟨z.1, z.2.1⟩)]
      by_cases z8 : f = 3 ∧ a = R 388 c 0 ∧ i = o / 8
      · obtain ⟨rfl, rfl, rfl⟩ := z8
        rw [q8, if_pos ⟨rfl, rfl, rfl⟩]
        exact (if_pos ⟨rfl, rfl, rfl⟩).symm
      · rw [if_neg z8, if_neg z8]
/-- a byte that is put, and a reservation that is dropped -/
theorem put_drop {c o h : Nat} {x : Int64} {v : Int32} (hne : M.2.2 388 c 0 ≠ M.2.2 389 c 0) : pbM c x o v (fm_sL M 3 (M.2.2 389 c 0) h (Int64.ofInt 0)) = fm_sL (pbM c x o v M) 3 (M.2.2 389 c 0) h (Int64.ofInt 0) := by
  unfold pbM
  have e8 : (fm_sL M 3 (M.2.2 389 c 0) h (Int64.ofInt 0)).2.1 3 ((fm_sL M 3 (M.2.2 389 c 0) h (Int64.ofInt 0)).2.2 388 c 0) (o / 8) = M.2.1 3 (M.2.2 388 c 0) (o / 8) := if_neg (fun z => hne z.2.1)
  rw [e8]
  refine Prod.ext rfl (Prod.ext ?_ rfl)
  funext f a i
  generalize pbw (M.2.1 3 (M.2.2 388 c 0) (o / 8)) o v = w
  show fi (f = 3 ∧ a = M.2.2 389 c 0 ∧ i < 4 ∧ hit x ((fm_sL (fm_sL M 3 (M.2.2 389 c 0) h (Int64.ofInt 0)) 3 (M.2.2 388 c 0) (o / 8) w).2.1 3 (M.2.2 389 c 0) i)) (Int64.ofInt 0) ((fm_sL (fm_sL M 3 (M.2.2 389 c 0) h (Int64.ofInt 0)) 3 (M.2.2 388 c 0) (o / 8) w).2.1 f a i) =
    (if f = 3 ∧ a = M.2.2 389 c 0 ∧ i = h then Int64.ofInt 0 else fi (f = 3 ∧ a = M.2.2 389 c 0 ∧ i < 4 ∧ hit x ((fm_sL M 3 (M.2.2 388 c 0) (o / 8) w).2.1 3 (M.2.2 389 c 0) i)) (Int64.ofInt 0) ((fm_sL M 3 (M.2.2 388 c 0) (o / 8) w).2.1 f a i))
  generalize M.2.2 388 c 0 = r8 at *
  generalize M.2.2 389 c 0 = r9 at *
  have s1 : ∀ f a i, (fm_sL (fm_sL M 3 r9 h (Int64.ofInt 0)) 3 r8 (o / 8) w).2.1 f a i = if f = 3 ∧ a = r8 ∧ i = o / 8 then w else (if f = 3 ∧ a = r9 ∧ i = h then Int64.ofInt 0 else M.2.1 f a i) := fun _ _ _ => rfl
  have s2 : ∀ f a i, (fm_sL M 3 r8 (o / 8) w).2.1 f a i = if f = 3 ∧ a = r8 ∧ i = o / 8 then w else M.2.1 f a i := fun _ _ _ => rfl
  by_cases z : f = 3 ∧ a = r9 ∧ i = h
  · rw [if_pos z, s1 f a i, if_pos z, if_neg (fun y => hne (y.2.1.symm.trans z.2.1))]
    generalize hit x _ = hh
    by_cases y : f = 3 ∧ a = r9 ∧ i < 4 ∧ hh
    · rw [fi_pos y]
    · rw [fi_neg y]
  · rw [if_neg z, s1 f a i, if_neg z, s2 f a i]
    by_cases y9 : f = 3 ∧ a = r9
    · have hi : ¬ i = h := fun y => z ⟨y9.1, y9.2, y⟩
      rw [s1 3 r9 i, s2 3 r9 i, if_neg (fun y : 3 = 3 ∧ r9 = r9 ∧ i = h => hi y.2.2)]
    · rw [fi_neg (fun y => y9 ⟨y.1, y.2.1⟩), fi_neg (fun y => y9 ⟨y.1, y.2.1⟩)]
end Ip
/-- so many bytes are put -/
noncomputable def puN (c : Nat) (ad : Nat → Int64) (of : Nat → Nat) (v : Nat → Int32) : Nat → FM → FM
  | 0, M => M
  | n + 1, M => pbM c (ad n) (of n) (v n) (puN c ad of v n M)
section Pn
variable {R : Rfs} {D : Nat → Nat → Nat → Prop} {X : FM → FM} {M : FM} {c h : Nat} {ad : Nat → Int64} {of : Nat → Nat} {v : Nat → Int32}
theorem puN_R : ∀ n, (puN c ad of v n M).2.2 = M.2.2
  | 0 => rfl
  | n + 1 => puN_R n
theorem puN_P (hX : IsP R D X) (d8 : ∀ i, ¬ D 3 (R 388 c 0) i) (d9 : ∀ i, ¬ D 3 (R 389 c 0) i) (d1 : ∀ i, ¬ D 3 (R 391 c 0) i) (e : M.2.2 = R) : ∀ n, puN c ad of v n (X M) = X (puN c ad of v n M)
  | 0 => rfl
  | n + 1 => by
    show pbM c (ad n) (of n) (v n) (puN c ad of v n (X M)) = X (pbM c (ad n) (of n) (v n) (puN c ad of v n M))
    rw [puN_P hX d8 d9 d1 e n]
    exact isP_put hX d8 d9 d1 ((puN_R n).trans e)
theorem puN_drop (hne : M.2.2 388 c 0 ≠ M.2.2 389 c 0) : ∀ n, puN c ad of v n (fm_sL M 3 (M.2.2 389 c 0) h (Int64.ofInt 0)) = fm_sL (puN c ad of v n M) 3 (M.2.2 389 c 0) h (Int64.ofInt 0)
  | 0 => rfl
  | n + 1 => by
    show pbM c (ad n) (of n) (v n) (puN c ad of v n (fm_sL M 3 (M.2.2 389 c 0) h (Int64.ofInt 0))) = fm_sL (pbM c (ad n) (of n) (v n) (puN c ad of v n M)) 3 (M.2.2 389 c 0) h (Int64.ofInt 0)
    have e : (puN c ad of v n M).2.2 = M.2.2 := puN_R n
    have := put_drop (M := puN c ad of v n M) (c := c) (o := of n) (h := h) (x := ad n) (v := v n) (by rw [e]; exact hne)
    rw [e] at this
    rw [puN_drop hne n]
    exact this
end Pn
