/-! floats: the component's objects; what may change of them; numbers taken apart -/
set_option maxRecDepth 100000
/-- the unit: c 0 .. c 3 what is taken apart, c 4 .. c 7 their sizes, c 8 c 9 what is tried, c 10 c 11 the formats, c 12 the flags -/
def FlC (u : Nat) (c : Nat → Nat) (M : FM) : Prop := Ty M ∧ fm_is M 32 32 u = true ∧ (∀ i, i < 13 → ∀ j, j < 13 → i ≠ j → c i ≠ c j) ∧
  (∀ k, k < 4 → M.2.2 (105 + k) u 0 = c k ∧ M.2.2 117 (c k) 0 = c (4 + k) ∧ fm_is M 39 39 (c k) = true ∧ fm_is M 40 40 (c (4 + k)) = true) ∧
  (∀ t, t < 2 → M.2.2 3 (M.2.2 98 u 0) t = c (10 + t) ∧ M.2.2 112 (c (10 + t)) 0 = c (8 + t) ∧ FmV M (c (10 + t)) t ∧ fm_is M 33 33 (c (10 + t)) = true ∧ fm_is M 40 40 (c (8 + t)) = true) ∧
  M.2.2 94 u 0 = c 12 ∧ fm_is M 31 31 (c 12) = true
/-- of those taken apart the ones of S are changed, what is tried, flags -/
def FrCF (c : Nat → Nat) (S : Nat → Prop) (M N : FM) : Prop := Ty N ∧
  (∀ g b i, ¬ (g = 114 ∧ ∃ k, k < 4 ∧ S k ∧ b = c k) → N.2.2 g b i = M.2.2 g b i) ∧
  (∀ g b i, ¬ ((g = 115 ∨ g = 116) ∧ ∃ k, k < 4 ∧ S k ∧ b = c k) → ¬ ((g = 91 ∨ g = 92) ∧ b = c 12) → N.1 g b i = M.1 g b i) ∧
  (∀ g b i, ¬ (g = 118 ∧ ∃ k, k < 4 ∧ S k ∧ b = c k) → ¬ ((g = 119 ∨ g = 120) ∧ ((∃ k, k < 4 ∧ S k ∧ b = c (4 + k)) ∨ b = c 8 ∨ b = c 9)) → N.2.1 g b i = M.2.1 g b i)
/-- kind and sign; exponent and size; bits -/
def TkV (c : Nat → Nat) (k : Nat) (M : FM) (kd : Nat) (sg : Bool) : Prop := M.2.2 114 (c k) 0 = 6 + kd ∧ M.1 115 (c k) 0 = bz (sg = true)
def TkN (c : Nat → Nat) (k : Nat) (M : FM) (e : Int) (V : Nat) : Prop := M.1 116 (c k) 0 = Int32.ofInt e ∧ wv M (c (4 + k)) = V
/-- flags are raised -/
def Rc (c : Nat → Nat) (fl : Nat) (M N : FM) : Prop := N.1 91 (c 12) 0 = M.1 91 (c 12) 0 ||| nI fl ∧ N.1 92 (c 12) 0 = M.1 92 (c 12) 0 ||| bz (fl ≠ 0)
section Fc
variable {u k j t : Nat} {c : Nat → Nat} {S S' : Nat → Prop} {M N X : FM}
theorem frC_rF (T : Ty M) : FrCF c S M M := ⟨T, fun _ _ _ _ => rfl, fun _ _ _ _ _ => rfl, fun _ _ _ _ _ => rfl⟩
theorem frC_w (h : FrCF c S M N) (w : ∀ k, S k → S' k) : FrCF c S' M N :=
  ⟨h.1, fun g b i q => h.2.1 g b i (fun z => q ⟨z.1, z.2.elim fun k y => ⟨k, y.1, w k y.2.1, y.2.2⟩⟩),
   fun g b i q r => h.2.2.1 g b i (fun z => q ⟨z.1, z.2.elim fun k y => ⟨k, y.1, w k y.2.1, y.2.2⟩⟩) r,
   fun g b i q r => h.2.2.2 g b i (fun z => q ⟨z.1, z.2.elim fun k y => ⟨k, y.1, w k y.2.1, y.2.2⟩⟩) (fun z => r ⟨z.1, z.2.elim (fun y => y.elim fun k y => Or.inl ⟨k, y.1, w k y.2.1, y.2.2⟩) Or.inr⟩)⟩
theorem frC_tF (h : FrCF c S M N) (k : FrCF c S N X) : FrCF c S M X :=
  ⟨k.1, fun g b i q => (k.2.1 g b i q).trans (h.2.1 g b i q), fun g b i q r => (k.2.2.1 g b i q r).trans (h.2.2.1 g b i q r), fun g b i q r => (k.2.2.2 g b i q r).trans (h.2.2.2 g b i q r)⟩
theorem frC_is (h : FrCF c S M N) {lo hi x : Nat} (n : fm_is M lo hi x = true) : fm_is N lo hi x = true := by
  unfold fm_is at *
  rw [h.2.1 0 x 0 (fun q => by omega)]
  exact n
theorem frC_ext (h : FrCF c S M N) : Ext M N := fun x _ => ⟨h.2.1 0 x 0 (fun q => by omega), h.2.1 1 x 0 (fun q => by omega)⟩
theorem frC_o (o : FlC u c M) (h : FrCF c S M N) : FlC u c N := by
  obtain ⟨_, a2, a3, a4, a5, a6, a7⟩ := o
  refine ⟨h.1, frC_is h a2, a3, fun k hk => ?_, fun t ht => ?_, ?_, frC_is h a7⟩
  · obtain ⟨b1, b2, b3, b4⟩ := a4 k hk
    exact ⟨(h.2.1 _ _ _ (fun q => by omega)).trans b1, (h.2.1 _ _ _ (fun q => by omega)).trans b2, frC_is h b3, frC_is h b4⟩
  · obtain ⟨b1, b2, b3, b4, b5⟩ := a5 t ht
    refine ⟨?_, (h.2.1 _ _ _ (fun q => by omega)).trans b2, ?_, frC_is h b4, frC_is h b5⟩
    · rw [h.2.1 98 u 0 (fun q => by omega), h.2.1 3 _ _ (fun q => by omega)]
      exact b1
    · exact ⟨(h.2.2.1 _ _ _ (fun q => by omega) (fun q => by omega)).trans b3.1, (h.2.2.1 _ _ _ (fun q => by omega) (fun q => by omega)).trans b3.2.1, (h.2.2.1 _ _ _ (fun q => by omega) (fun q => by omega)).trans b3.2.2⟩
  · exact (h.2.1 _ _ _ (fun q => by omega)).trans a6
/-- what is not in S stays -/
theorem frC_k (o : FlC u c M) (h : FrCF c S M N) (hk : k < 4) (n : ¬ S k) {kd : Nat} {sg : Bool} (v : TkV c k M kd sg) : TkV c k N kd sg := by
  have d := o.2.2.1
  have e : ¬ ∃ j, j < 4 ∧ S j ∧ c k = c j := fun ⟨j, j1, j2, j3⟩ => by
    by_cases q : k = j
    · rw [← q] at j2
      exact n j2
    · exact d k (by omega) j (by omega) q j3
  exact ⟨(h.2.1 _ _ _ (fun q => e q.2)).trans v.1, (h.2.2.1 _ _ _ (fun q => e q.2) (fun q => by omega)).trans v.2⟩
theorem frC_n (o : FlC u c M) (h : FrCF c S M N) (hk : k < 4) (n : ¬ S k) {e : Int} {V : Nat} (v : TkN c k M e V) : TkN c k N e V := by
  have d := o.2.2.1
  have e1 : ¬ ∃ j, j < 4 ∧ S j ∧ c k = c j := fun ⟨j, j1, j2, j3⟩ => by
    by_cases q : k = j
    · rw [← q] at j2
      exact n j2
    · exact d k (by omega) j (by omega) q j3
  have e2 : ¬ ((∃ j, j < 4 ∧ S j ∧ c (4 + k) = c (4 + j)) ∨ c (4 + k) = c 8 ∨ c (4 + k) = c 9) := fun q => by
    rcases q with ⟨j, j1, j2, j3⟩ | q | q
    · by_cases q : k = j
      · rw [← q] at j2
        exact n j2
      · exact d (4 + k) (by omega) (4 + j) (by omega) (by omega) j3
    · exact d (4 + k) (by omega) 8 (by omega) (by omega) q
    · exact d (4 + k) (by omega) 9 (by omega) (by omega) q
  refine ⟨(h.2.2.1 _ _ _ (fun q => e1 q.2) (fun q => by omega)).trans v.1, ?_⟩
  rw [← v.2]
  unfold wv
  rw [h.2.2.2 119 _ _ (fun q => by omega) (fun q => e2 q.2), h.2.2.2 120 _ _ (fun q => by omega) (fun q => e2 q.2)]
theorem frC_b (o : FlC u c M) (h : FrCF c S M N) (hk : k < 4) (n : ¬ S k) : N.2.1 118 (c k) 0 = M.2.1 118 (c k) 0 := by
  have d := o.2.2.1
  refine h.2.2.2 118 _ _ (fun q => ?_) (fun q => by omega)
  obtain ⟨j, j1, j2, j3⟩ := q.2
  by_cases q : k = j
  · rw [← q] at j2
    exact n j2
  · exact d k (by omega) j (by omega) q j3
/-- flags are not touched: neither written -/
theorem rc_0 (o : FlC u c M) (e1 : N.1 91 (c 12) 0 = M.1 91 (c 12) 0) (e2 : N.1 92 (c 12) 0 = M.1 92 (c 12) 0) : Rc c 0 M N := by
  refine ⟨by rw [e1, or_n0], ?_⟩
  rw [e2, bz_f (c := (0 : Nat) ≠ 0) (fun q => q rfl)]
  exact (or_n0 _).symm
theorem bz_or (p q : Prop) : bz p ||| bz q = bz (p ∨ q) := by
  by_cases a : p
  · rw [bz_t a, bz_t (Or.inl a)]
    by_cases b : q
    · rw [bz_t b]
      rfl
    · rw [bz_f b]
      rfl
  · rw [bz_f a]
    by_cases b : q
    · rw [bz_t b, bz_t (Or.inr b)]
      rfl
    · rw [bz_f b, bz_f (fun z => z.elim a b)]
      rfl
theorem rc_t {f1 f2 : Nat} (h : Rc c f1 M N) (k : Rc c f2 N X) (a : f1 < 4294967296) (b : f2 < 4294967296) : Rc c (f1 ||| f2) M X := by
  refine ⟨by rw [k.1, h.1, or_as, or_nn a b], ?_⟩
  rw [k.2, h.2, or_as, bz_or]
  refine congrArg (fun z => M.1 92 (c 12) 0 ||| z) (bz_c ⟨fun q z => ?_, fun q => ?_⟩)
  · have := Nat.or_eq_zero_iff.mp z
    rcases q with q | q
    · exact q this.1
    · exact q this.2
  · by_cases z : f1 = 0
    · refine Or.inr (fun y => q ?_)
      rw [z, y]
      rfl
    · exact Or.inl z
theorem rc_0t {f : Nat} (h : Rc c 0 M N) (k : Rc c f N X) : Rc c f M X := by
  refine ⟨by rw [k.1, h.1, or_n0], ?_⟩
  rw [k.2, h.2, bz_f (c := (0 : Nat) ≠ 0) (fun q => q rfl)]
  congr 1
  exact or_n0 _
theorem rc_t0 {f : Nat} (h : Rc c f M N) (k : Rc c 0 N X) : Rc c f M X := by
  refine ⟨by rw [k.1, h.1, or_n0], ?_⟩
  rw [k.2, h.2, bz_f (c := (0 : Nat) ≠ 0) (fun q => q rfl)]
  exact or_n0 _
theorem X60_raise (o : FlC u c M) {fl : Nat} (hf : fl < 4294967296) : HX60_raise (c 12) (nI fl) M ∧ FrCF c (fun _ => False) M (GX60_raise (c 12) (nI fl) M) ∧ Rc c fl M (GX60_raise (c 12) (nI fl) M) := by
  have tb : M.1 92 (c 12) 0 = 0 ∨ M.1 92 (c 12) 0 = 1 := o.1.2.1 92 (by decide) _ _
  have e0 : nI fl = 0 ↔ ¬ fl ≠ 0 := by
    rw [eq_ui, ni_u hf]
    exact ⟨fun q k => k q, fun q => Classical.byContradiction q⟩
  have z : ∀ v : Int32, (v = 0 ∨ v = 1) → M.1 92 (c 12) 0 ||| v = 0 ∨ M.1 92 (c 12) 0 ||| v = 1 := fun v hv => zz_or tb hv
  have G : GX60_raise (c 12) (nI fl) M = fm_sI (fm_sI M 91 (c 12) 0 (M.1 91 (c 12) 0 ||| nI fl)) 92 (c 12) 0 (M.1 92 (c 12) 0 ||| bz (fl ≠ 0)) := by
    unfold GX60_raise GX60_raise_0 GX60_raise_24
    dsimp only
    rw [rI, if_neg (fun q => by omega), propext e0]
    by_cases q : fl ≠ 0
    · rw [fi_neg (fun z => z q), bz_t q]
    · rw [fi_pos q, bz_f q]
  have H : HX60_raise (c 12) (nI fl) M := by
    unfold HX60_raise HX60_raise_0 HX60_raise_24
    dsimp only
    rw [rI, if_neg (fun q => by omega)]
    exact ⟨fun _ => ⟨z _ (Or.inl rfl), trivial⟩, fun _ => ⟨z _ (Or.inr rfl), trivial⟩⟩
  refine ⟨H, ?_, ?_⟩
  · rw [G]
    refine ⟨⟨o.1.1, tyb_sIb (by rfl) (tyb_sI (by rfl) o.1.2) (z _ (bz_z _))⟩, fun _ _ _ _ => rfl, fun g b i _ r => ?_, fun _ _ _ _ _ => rfl⟩
    rw [rI, if_neg (fun q => r ⟨Or.inr q.1, q.2.1⟩), rI, if_neg (fun q => r ⟨Or.inl q.1, q.2.1⟩)]
  · rw [G]
    exact ⟨by rw [rI, if_neg (fun q => by omega), sI_at], sI_at _ _ _ _ _⟩
end Fc
