/-! floats: the component's operations run; bits of what came out -/
set_option maxRecDepth 100000
/-- the work of an operation, by its class -/
noncomputable def gWkF (a0 a1 a2 a3 a4 a5 : Nat) (M : FM) : FM :=
  (fi (fm_is M 34 34 a0 = true) (GX67_work a0 a1 a2 a3 a4 a5 M) ((fi (fm_is M 35 35 a0 = true) (GX68_work a0 a1 a2 a3 a4 a5 M) ((fi (fm_is M 36 36 a0 = true) (GX69_work a0 a1 a2 a3 a4 a5 M) ((fi (fm_is M 37 37 a0 = true) (GX70_work a0 a1 a2 a3 a4 a5 M) (GX66_work a0 a1 a2 a3 a4 a5 M))))))))
def hWk (a0 a1 a2 a3 a4 a5 : Nat) (M : FM) : Prop :=
  ((fm_is M 34 34 a0 = true → HX67_work a0 a1 a2 a3 a4 a5 M) ∧ (¬ (fm_is M 34 34 a0 = true) → ((fm_is M 35 35 a0 = true → HX68_work a0 a1 a2 a3 a4 a5 M) ∧ (¬ (fm_is M 35 35 a0 = true) → ((fm_is M 36 36 a0 = true → HX69_work a0 a1 a2 a3 a4 a5 M) ∧ (¬ (fm_is M 36 36 a0 = true) → ((fm_is M 37 37 a0 = true → True) ∧ (¬ (fm_is M 37 37 a0 = true) → HX66_work a0 a1 a2 a3 a4 a5 M))))))))
theorem is_ne {M : FM} {a b x : Nat} (h : fm_is M a a x = true) (n : Nat.blt a b = true ∨ Nat.blt b a = true) : ¬ fm_is M b b x = true := fun k => by
  have p := fm_isd h
  have q := fm_isd k
  rcases n with y | y
  · have := Nat.le_of_ble_eq_true y
    omega
  · have := Nat.le_of_ble_eq_true y
    omega
section Lv
variable {u i j k md t op a1 a2 a3 a4 a5 : Nat} {c : Nat → Nat} {S : Nat → Prop} {M N : FM} {X Y : UU}
theorem wk_34 (h : fm_is M 34 34 op = true) : (HX67_work op a1 a2 a3 a4 a5 M → hWk op a1 a2 a3 a4 a5 M) ∧ gWkF op a1 a2 a3 a4 a5 M = GX67_work op a1 a2 a3 a4 a5 M :=
  ⟨fun w => ⟨fun _ => w, fun n => absurd h n⟩, fi_pos h⟩
theorem wk_35 (h : fm_is M 35 35 op = true) : (HX68_work op a1 a2 a3 a4 a5 M → hWk op a1 a2 a3 a4 a5 M) ∧ gWkF op a1 a2 a3 a4 a5 M = GX68_work op a1 a2 a3 a4 a5 M := by
  have n1 := is_ne (b := 34) h (by decide)
  exact ⟨fun w => ⟨fun y => absurd y n1, fun _ => ⟨fun _ => w, fun n => absurd h n⟩⟩, (fi_neg n1).trans (fi_pos h)⟩
theorem wk_36 (h : fm_is M 36 36 op = true) : (HX69_work op a1 a2 a3 a4 a5 M → hWk op a1 a2 a3 a4 a5 M) ∧ gWkF op a1 a2 a3 a4 a5 M = GX69_work op a1 a2 a3 a4 a5 M := by
  have n1 := is_ne (b := 34) h (by decide)
  have n2 := is_ne (b := 35) h (by decide)
  exact ⟨fun w => ⟨fun y => absurd y n1, fun _ => ⟨fun y => absurd y n2, fun _ => ⟨fun _ => w, fun n => absurd h n⟩⟩⟩, (fi_neg n1).trans ((fi_neg n2).trans (fi_pos h))⟩
theorem wk_37 (h : fm_is M 37 37 op = true) : hWk op a1 a2 a3 a4 a5 M ∧ gWkF op a1 a2 a3 a4 a5 M = GX70_work op a1 a2 a3 a4 a5 M := by
  have n1 := is_ne (b := 34) h (by decide)
  have n2 := is_ne (b := 35) h (by decide)
  have n3 := is_ne (b := 36) h (by decide)
  exact ⟨⟨fun y => absurd y n1, fun _ => ⟨fun y => absurd y n2, fun _ => ⟨fun y => absurd y n3, fun _ => ⟨fun _ => trivial, fun n => absurd h n⟩⟩⟩⟩, (fi_neg n1).trans ((fi_neg n2).trans ((fi_neg n3).trans (fi_pos h)))⟩
theorem wk_38 (h : fm_is M 38 38 op = true) : (HX66_work op a1 a2 a3 a4 a5 M → hWk op a1 a2 a3 a4 a5 M) ∧ gWkF op a1 a2 a3 a4 a5 M = GX66_work op a1 a2 a3 a4 a5 M := by
  have n1 := is_ne (b := 34) h (by decide)
  have n2 := is_ne (b := 35) h (by decide)
  have n3 := is_ne (b := 36) h (by decide)
  have n4 := is_ne (b := 37) h (by decide)
  exact ⟨fun w => ⟨fun y => absurd y n1, fun _ => ⟨fun y => absurd y n2, fun _ => ⟨fun y => absurd y n3, fun _ => ⟨fun y => absurd y n4, fun _ => w⟩⟩⟩⟩, (fi_neg n1).trans ((fi_neg n2).trans ((fi_neg n3).trans (fi_neg n4)))⟩
/-- an operation run: none, or its work -/
def nnR (a b : Nat) (R : Rt × Nat) : Rt × Nat := if 3 ≤ a ∨ 3 ≤ b then ((3, false, 0, 0, false), if a = 4 ∨ b = 4 then 16 else 0) else R
theorem X65_run (o : FlC u c M) (hS : S 3) (hi : i < 4) (hj : j < 4) (va : TkV c i M X.1 X.2.1) (vb : TkV c j M Y.1 Y.2.1) (ha : X.1 ≤ 4) (hb : Y.1 ≤ 4) {R : Rt × Nat} (P : FM → Prop)
    (hn : ∀ N, TkV c 3 N 3 false → 3 ≤ X.1 ∨ 3 ≤ Y.1 → P N)
    (hw : ¬ (3 ≤ X.1 ∨ 3 ≤ Y.1) → ∃ N, (hWk op (c i) (c j) a3 (c 12) (c 3) M ∧ gWkF op (c i) (c j) a3 (c 12) (c 3) M = N) ∧ Cf c S R.2 M N ∧ P N) :
    ∃ N, (HX65_run op (c i) (c j) a3 (c 12) (c 3) M ∧ GX65_run op (c i) (c j) a3 (c 12) (c 3) M = N) ∧ Cf c S (nnR X.1 Y.1 R).2 M N ∧ P N := by
  obtain ⟨K, ⟨h, e⟩, r⟩ := X65_isNone o hS hi hj va vb ha hb
  have eH : HX65_run op (c i) (c j) a3 (c 12) (c 3) M = (HX65_isNone (c i) (c j) (c 12) (c 3) M ∧ let r1 : Int32 × FM := GX65_isNone (c i) (c j) (c 12) (c 3) M; ((r1.1 = 0 → (hWk op (c i) (c j) a3 (c 12) (c 3) r1.2 ∧ True)) ∧ (¬ (r1.1 = 0) → True))) := rfl
  have eG : GX65_run op (c i) (c j) a3 (c 12) (c 3) M = (let r1 : Int32 × FM := GX65_isNone (c i) (c j) (c 12) (c 3) M; fi (r1.1 = 0) (gWkF op (c i) (c j) a3 (c 12) (c 3) r1.2) r1.2) := rfl
  rw [eH, eG]
  dsimp only
  rw [e]
  dsimp only
  rw [fi_bz]
  by_cases q : 3 ≤ X.1 ∨ 3 ≤ Y.1
  · rw [fi_pos q, bz_t q]
    obtain ⟨-, r1, r2⟩ := r.resolve_left (fun y => y.1 q)
    unfold nnR
    rw [if_pos q]
    exact ⟨K, ⟨⟨h, fun y => absurd y (by decide), fun _ => trivial⟩, rfl⟩, r1, hn K r2 q⟩
  · rw [fi_neg q, bz_f q]
    obtain ⟨-, rfl⟩ := r.resolve_right (fun y => q y.1)
    obtain ⟨N, ⟨w1, w2⟩, w3⟩ := hw q
    unfold nnR
    rw [if_neg q]
    exact ⟨N, ⟨⟨h, fun _ => ⟨w1, trivial⟩, fun y => absurd rfl y⟩, w2⟩, w3⟩
/-- bits of what came out -/
theorem X61_put (o : FlC u c M) (d : Odf M) (hk : k < 4) (ht : t ≤ 1) (hm : md ≤ 4) (hS : S k) {R : Rt} (hR : Ou c k md M R) :
    ∃ N, (HX61_put (c (10 + t)) (c k) (1 + md) (c 12) M ∧ GX61_put (c (10 + t)) (c k) (1 + md) (c 12) M = (lN (finF t md R).1, N)) ∧ Cf c S (finF t md R).2 M N := by
  obtain ⟨⟨kd, sg, V, e⟩, ⟨v1, v2⟩, h4, h1, hf⟩ := hR
  rw [← hf t ht]
  dsimp only at v1 v2 h4 h1 ⊢
  have fm := (o.2.2.2.2.1 t (by omega)).2.2.1
  have od := (d kd (by omega)).2
  unfold HX61_put HX61_put_0 GX61_put GX61_put_0 GJ0_ordinal GJ0_ordinal_0
  dsimp only
  rw [v1.1, od, v1.2]
  have T0 := cf_r (S := S) (c := c) o.1
  rcases (show kd = 0 ∨ kd = 1 ∨ kd = 2 ∨ 3 ≤ kd by omega) with q | q | q | q
  · subst q
    rw [fi_pos (show nI 0 = Int32.ofInt 0 from rfl), X61_sign ht fm, fin_0]
    refine ⟨M, ⟨⟨fun _ => trivial, fun y => absurd rfl y⟩, ?_⟩, T0⟩
    dsimp only
    rw [show fi (sg = true) (2 ^ fS t) 0 = pk t sg 0 0 by unfold pk; cases sg <;> simp [fi_pos, fi_neg]]
  · subst q
    obtain ⟨g1, g2, g3⟩ := h1 rfl
    obtain ⟨N, ⟨n1, n2⟩, n3⟩ := X61_round (S := S) (e := e) (V := V) o d hk ht hm hS v1 (v2 rfl) g1 g2 (by omega)
    rw [fi_neg (show ¬ nI 1 = Int32.ofInt 0 by decide), fi_pos (show nI 1 = Int32.ofInt 1 from rfl), n2, fin_1]
    exact ⟨N, ⟨⟨fun y => absurd y (by decide), fun _ => ⟨fun _ => ⟨n1, trivial⟩, fun y => absurd rfl y⟩⟩, rfl⟩, n3⟩
  · subst q
    rw [fi_neg (show ¬ nI 2 = Int32.ofInt 0 by decide), fi_neg (show ¬ nI 2 = Int32.ofInt 1 by decide), fi_pos (show nI 2 = Int32.ofInt 2 from rfl), X61_infinite ht fm, fin_2]
    exact ⟨M, ⟨⟨fun y => absurd y (by decide), fun _ => ⟨fun y => absurd y (by decide), fun _ => trivial⟩⟩, rfl⟩, T0⟩
  · have ne : ∀ l, l ≤ 2 → ¬ nI kd = nI l := fun l hl y => by
      have := (ni_i (a := kd) (b := l) (by omega) (by omega)).mp y
      omega
    rw [fi_neg (show ¬ nI kd = Int32.ofInt 0 from ne 0 (by decide)), fi_neg (show ¬ nI kd = Int32.ofInt 1 from ne 1 (by decide)), fi_neg (show ¬ nI kd = Int32.ofInt 2 from ne 2 (by decide)), X61_quiet ht fm]
    have ef : finF t md (kd, sg, V, e, false) = (qN t, 0) := by
      unfold finF
      rw [if_neg (show ¬ kd = 0 by omega), if_neg (show ¬ kd = 1 by omega), if_neg (show ¬ kd = 2 by omega)]
    rw [ef]
    exact ⟨M, ⟨⟨fun y => absurd y (ne 0 (by decide)), fun _ => ⟨fun y => absurd y (ne 1 (by decide)), fun _ => trivial⟩⟩, rfl⟩, T0⟩
end Lv
