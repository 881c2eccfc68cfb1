/-! the controller: what is seen on both sides; the component's reads and writes -/
set_option maxRecDepth 100000
/-- signals, waiting, served (bits); priorities, enables, thresholds -/
abbrev Kr : Type := Int32 × Int32 × Int32 × (Nat → Int32) × (Nat → Int32) × (Nat → Int32)
def VKc (C : Nat) (M : FM) (K : Kr) : Prop := M.1 227 C 0 = K.1 ∧ M.1 228 C 0 = K.2.1 ∧ M.1 229 C 0 = K.2.2.1 ∧ (∀ s, s < 32 → M.1 3 (M.2.2 224 C 0) s = K.2.2.2.1 s) ∧ (∀ c, c < 8 → M.1 3 (M.2.2 225 C 0) c = K.2.2.2.2.1 c) ∧ (∀ c, c < 8 → M.1 3 (M.2.2 226 C 0) c = K.2.2.2.2.2 c)
def VKt (m : Nat) (M : FM) (K : Kr) : Prop := (∀ s, s < 32 → M.1 3 (M.2.2 399 m 0) s = bz (ib K.1 s = true)) ∧ (∀ s, s < 32 → M.1 3 (M.2.2 400 m 0) s = bz (ib K.2.1 s = true)) ∧ (∀ s, s < 32 → M.1 3 (M.2.2 401 m 0) s = bz (ib K.2.2.1 s = true)) ∧
  (∀ s, s < 32 → M.1 3 (M.2.2 402 m 0) s = K.2.2.2.1 s) ∧ (∀ c, c < 8 → M.1 3 (M.2.2 403 m 0) c = K.2.2.2.2.1 c) ∧ (∀ c, c < 8 → M.1 3 (M.2.2 404 m 0) c = K.2.2.2.2.2 c)
def VKi (K : Kr) : Prop := ib K.1 0 = false ∧ ib K.2.1 0 = false ∧ ∀ s, ¬ (ib K.2.1 s = true ∧ ib K.2.2.1 s = true)
noncomputable def bst (P : Nat → Prop) (pr : Nat → Int32) : Nat := @dite Nat (∃ b, isBest P pr b) (Classical.propDecidable _) Classical.choose (fun _ => 0)
theorem bst_eq {P : Nat → Prop} {pr : Nat → Int32} {b : Nat} (h : isBest P pr b) : bst P pr = b := by
  have e : ∃ b, isBest P pr b := ⟨b, h⟩
  unfold bst
  rw [dif_pos e]
  exact best_u (Classical.choose_spec e) h
noncomputable def b1 (s : Nat) : Int32 := Int32.ofInt 1 <<< (nI s &&& 31)
noncomputable def off1 (x : Int32) (s : Nat) : Int32 := x &&& (b1 s ^^^ Int32.ofInt (-1))
theorem ib_b1 {s : Nat} (hs : s < 32) (i : Nat) : ib (b1 s) i = (decide (i < 32) && decide (i = s)) := by
  unfold b1
  rw [ib_shl (k := s) _ _ (by rw [ui_nI]; omega), ib_mask (k := 1) (Int32.ofInt 1) rfl]
  by_cases h : i < 32
  · rw [decide_eq_true h]
    by_cases e : i = s
    · rw [decide_eq_true e, decide_eq_true (show s ≤ i by omega), decide_eq_true (show i - s < 1 by omega)]
      rfl
    · rw [decide_eq_false e]
      by_cases q : s ≤ i
      · rw [decide_eq_false (show ¬ i - s < 1 by omega)]
        simp
      · rw [decide_eq_false q]
        simp
  · rw [decide_eq_false h]
    simp
theorem ib_m1 {i : Nat} (hi : i < 32) : ib (Int32.ofInt (-1)) i = true := by
  rw [ib_mask (k := 32) (Int32.ofInt (-1)) rfl, decide_eq_true hi]
theorem ib_not (x : Int32) {i : Nat} (hi : i < 32) : ib (x ^^^ Int32.ofInt (-1)) i = !ib x i := by
  rw [ib_xor, ib_m1 hi]
  cases ib x i <;> rfl
theorem ib_off {x : Int32} {s i : Nat} (hs : s < 32) (hi : i < 32) : ib (off1 x s) i = (ib x i && !decide (i = s)) := by
  unfold off1
  rw [ib_and, ib_not _ hi, ib_b1 hs, decide_eq_true hi]
  simp
/-- the source that is claimed in a context -/
noncomputable def kBe (c : Nat) (K : Kr) : Nat := bst (cnd (K.2.1 &&& K.2.2.2.2.1 c) (Int32.ofInt 0) K.2.2.2.1) K.2.2.2.1
noncomputable def kCl (c : Nat) (K : Kr) : Int64 × Kr := if kBe c K = 0 then (lN 0, K) else (lN (kBe c K), K.1, off1 K.2.1 (kBe c K), K.2.2.1 ||| b1 (kBe c K), K.2.2.2)
noncomputable def kRd (p n : Nat) (K : Kr) : Int64 × Kr :=
  if n % 4 = 0 ∧ n < 128 then ((K.2.2.2.1 (n / 4)).toInt64, K) else if n = 4096 then (K.2.1.toInt64 &&& Int64.ofInt 4294967295, K) else
  match cxt p 8192 128 0 n with
  | some c => ((K.2.2.2.2.1 c).toInt64 &&& Int64.ofInt 4294967295, K)
  | none => match cxt p 2097152 4096 0 n with
    | some c => ((K.2.2.2.2.2 c).toInt64, K)
    | none => match cxt p 2097156 4096 0 n with
      | some c => kCl c K
      | none => (Int64.ofInt 0, K)
def FrC (C : Nat) (M M' : FM) : Prop := M'.2.2 = M.2.2 ∧ (∀ f b i, ¬ ((b = C ∧ 227 ≤ f ∧ f ≤ 229) ∨ (f = 3 ∧ (b = M.2.2 224 C 0 ∨ b = M.2.2 225 C 0 ∨ b = M.2.2 226 C 0))) → M'.1 f b i = M.1 f b i) ∧ M'.2.1 = M.2.1
theorem frC_r (C : Nat) (M : FM) : FrC C M M := ⟨rfl, fun _ _ _ _ => rfl, rfl⟩
theorem frC_I {C f : Nat} {v : Int32} {M N : FM} (h : FrC C M N) (hf : 227 ≤ f ∧ f ≤ 229) : FrC C M (fm_sI N f C 0 v) :=
  ⟨h.1, fun g b i z => by rw [rI, if_neg (fun q => z (Or.inl ⟨q.2.1, by rw [q.1]; exact hf⟩))]; exact h.2.1 g b i z, h.2.2⟩
theorem frC_A {C a k : Nat} {v : Int32} {M N : FM} (h : FrC C M N) (ha : a = M.2.2 224 C 0 ∨ a = M.2.2 225 C 0 ∨ a = M.2.2 226 C 0) : FrC C M (fm_sI N 3 a k v) :=
  ⟨h.1, fun g b i z => by rw [rI, if_neg (fun q => z (Or.inr ⟨q.1, by rw [q.2.1]; exact ha⟩))]; exact h.2.1 g b i z, h.2.2⟩
theorem frC_t {C : Nat} {M N X : FM} (h : FrC C M N) (k : FrC C N X) : FrC C M X := ⟨k.1.trans h.1, fun f b i z => (k.2.1 f b i (by rw [h.1]; exact z)).trans (h.2.1 f b i z), k.2.2.trans h.2.2⟩
theorem wC_neg (o : Option Nat) (h : ∀ k, o = some k → k < 4096) : wC o < 0 ↔ o = none := by
  cases o with
  | none => exact ⟨fun _ => rfl, fun _ => by decide⟩
  | some k => exact ⟨fun q => absurd q (nI0 (h k rfl)), fun q => by cases q⟩
theorem cxt_n4 {p base each n : Nat} (h4 : each % 4 = 0) (hb : base % 4 = 0) (h : ¬ n % 4 = 0) : cxt p base each 0 n = none := by
  unfold cxt
  rw [if_neg]
  rintro ⟨h1, h2, h3⟩
  have e := Nat.div_add_mod (n - base) each
  rw [h2] at e
  have : (each * ((n - base) / each)) % 4 = 0 := by rw [Nat.mul_mod, h4]; simp
  omega
section Cn
variable {C p n : Nat} {M : FM} {K : Kr}
theorem X33_claim (T : Ty M) (m : fm_is M 77 77 C = true) (V : VKc C M K) {c : Nat} (hc : c < 8) : ∃ M', (HX33_claim C (nI c) M ∧ GX33_claim C (nI c) M = (nI (kBe c K), M')) ∧ kBe c K < 32 ∧ (kCl c K).1 = lN (kBe c K) ∧ VKc C M' (kCl c K).2 ∧ FrC C M M' := by
  obtain ⟨v1, v2, v3, v4, v5, v6⟩ := V
  obtain ⟨b, ⟨e1, e2⟩, e3⟩ := X33_best T m (M.1 228 C 0 &&& M.1 3 (M.2.2 225 C 0) c) (Int32.ofInt 0)
  have hb : kBe c K = b := by
    unfold kBe
    rw [← v2, ← v5 c hc]
    refine bst_eq ?_
    rcases e3 with ⟨a1, a2⟩ | ⟨a1, a2, a3, a4⟩
    · exact Or.inl ⟨a1, fun s x1 x2 q => a2 s x1 x2 ⟨q.1, by rw [v4 s x2]; exact q.2⟩⟩
    · refine Or.inr ⟨a1, a2, ⟨a3.1, by rw [← v4 b a2]; exact a3.2⟩, fun s x1 x2 x3 => ?_⟩
      have := a4 s x1 x2 ⟨x3.1, by rw [v4 s x2]; exact x3.2⟩
      rw [v4 s x2, v4 b a2] at this
      exact this
  have b32 : b < 32 := by rcases e3 with ⟨a1, _⟩ | ⟨_, a2, _⟩ <;> omega
  rw [hb]
  have hH : HX33_claim C (nI c) M := by
    unfold HX33_claim HX33_claim_0
    dsimp only
    rw [o_cl (by omega)]
    exact ⟨in_nI (tL_225 T.1 m) hc (by decide), e1, trivial⟩
  unfold GX33_claim GX33_claim_0 GX33_claim_47 kCl
  dsimp only
  rw [o_cl (by omega), e2, hb]
  dsimp only
  by_cases z : b = 0
  · rw [fi_pos ((nle0 (n := b) (by omega)).mpr (by omega)), if_pos z]
    exact ⟨M, ⟨hH, rfl⟩, b32, by rw [z], ⟨v1, v2, v3, v4, v5, v6⟩, frC_r C M⟩
  · rw [fi_neg (fun y => by have := (nle0 (n := b) (by omega)).mp y; omega), if_neg z]
    refine ⟨_, ⟨hH, rfl⟩, b32, rfl, ⟨v1, ?_, ?_, v4, v5, v6⟩, frC_I (frC_I (frC_r C M) (by decide)) (by decide)⟩
    · rw [rIf (by decide), rI, if_pos ⟨rfl, rfl, rfl⟩, v2]
      rfl
    · rw [rI, if_pos ⟨rfl, rfl, rfl⟩, rIf (by decide), v3]
      rfl
theorem X33_read (T : Ty M) (m : fm_is M 77 77 C = true) (hp : M.1 223 C 0 = nI (2 * p)) (h4 : p ≤ 4) (hn : n < 2147483648) (V : VKc C M K) :
    ∃ M', (HX33_read C (lN n) (Int32.ofInt 4) M ∧ GX33_read C (lN n) (Int32.ofInt 4) M = ((kRd p n K).1, M')) ∧ VKc C M' (kRd p n K).2 ∧ FrC C M M' := by
  have V0 := V
  obtain ⟨v1, v2, v3, v4, v5, v6⟩ := V
  have c1 := X33_contextAt (C := C) (M := M) (n := n) hp h4 hn (show 8192 < 2147483648 by decide) (show 0 < 128 ∧ 128 < 2147483648 by decide) (show 0 < 2147483648 by decide)
  have c2 := X33_contextAt (C := C) (M := M) (n := n) hp h4 hn (show 2097152 < 2147483648 by decide) (show 0 < 4096 ∧ 4096 < 2147483648 by decide) (show 0 < 2147483648 by decide)
  have c3 := X33_contextAt (C := C) (M := M) (n := n) hp h4 hn (show 2097152 < 2147483648 by decide) (show 0 < 4096 ∧ 4096 < 2147483648 by decide) (show 4 < 2147483648 by decide)
  rw [cxt_4] at c3
  have a3 : lg_cmp (lN n &&& Int64.ofInt 3) (Int64.ofInt 0) = 0 ↔ n % 4 = 0 := by
    rw [show Int64.ofInt 3 = lN (2 ^ 2 - 1) from rfl, o_and hn 2 (by decide), show Int64.ofInt 0 = lN 0 from rfl]
    exact o_eq (by omega) (by decide)
  have g128 : 0 ≤ lg_cmp (lN n) (Int64.ofInt 128) ↔ 128 ≤ n := o_ge hn (show 128 < 2147483648 by decide)
  have e4096 : lg_cmp (lN n) (Int64.ofInt 4096) = 0 ↔ n = 4096 := o_eq hn (show 4096 < 2147483648 by decide)
  have l1 : ∀ k, cxt p 8192 128 0 n = some k → k < 8 := fun k h => by have := cxt_lt h; omega
  have l2 : ∀ k, cxt p 2097152 4096 0 n = some k → k < 8 := fun k h => by have := cxt_lt h; omega
  have l3 : ∀ k, cxt p 2097156 4096 0 n = some k → k < 8 := fun k h => by have := cxt_lt h; omega
  have n1 := wC_neg (cxt p 8192 128 0 n) (fun k h => by have := l1 k h; omega)
  have n2 := wC_neg (cxt p 2097152 4096 0 n) (fun k h => by have := l2 k h; omega)
  have n3 := wC_neg (cxt p 2097156 4096 0 n) (fun k h => by have := l3 k h; omega)
  unfold HX33_read HX33_read_0 GX33_read GX33_read_0 GX33_read_144 GX33_read_15
  dsimp only
  rw [fi_pos (show Int32.ofInt 4 = Int32.ofInt 4 from rfl), show GX33_contextAt C (lN n) (Int32.ofInt 8192) (Int32.ofInt 128) (Int32.ofInt 0) M = _ from c1.2]
  dsimp only
  rw [show GX33_contextAt C (lN n) (Int32.ofInt 2097152) (Int32.ofInt 4096) (Int32.ofInt 0) M = _ from c2.2]
  dsimp only
  rw [show GX33_contextAt C (lN n) (Int32.ofInt 2097152) (Int32.ofInt 4096) (Int32.ofInt 4) M = _ from c3.2]
  dsimp only
  rw [propext a3, propext g128, propext e4096, propext n1, propext n2, propext n3, o_q4 hn, v2]
  have hH : ∀ P : Prop, P → ((Int32.ofInt 4 = Int32.ofInt 4 → ((n % 4 = 0 → P) ∧ (¬ n % 4 = 0 → True))) ∧ (¬ (Int32.ofInt 4 = Int32.ofInt 4) → True)) := fun P h => ⟨fun _ => ⟨fun _ => h, fun _ => trivial⟩, fun _ => trivial⟩
  have H3 : ((128 ≤ n → ((n = 4096 → True) ∧ (¬ n = 4096 → ((cxt p 8192 128 0 n = none → ((cxt p 2097152 4096 0 n = none → ((cxt p 2097156 4096 0 n = none → True) ∧ (¬ cxt p 2097156 4096 0 n = none → (HX33_claim C (wC (cxt p 2097156 4096 0 n)) M ∧ True)))) ∧ (¬ cxt p 2097152 4096 0 n = none → (fm_in M (M.2.2 226 C 0) (wC (cxt p 2097152 4096 0 n)) = true ∧ True)))) ∧ (¬ cxt p 8192 128 0 n = none → (fm_in M (M.2.2 225 C 0) (wC (cxt p 8192 128 0 n)) = true ∧ True)))))) ∧ (¬ 128 ≤ n → (fm_in M (M.2.2 224 C 0) (nI (n / 4)) = true ∧ True))) := by
    refine ⟨fun _ => ⟨fun _ => trivial, fun _ => ⟨fun _ => ⟨fun _ => ⟨fun _ => trivial, fun q => ?_⟩, fun q => ?_⟩, fun q => ?_⟩⟩, fun q => ⟨in_nI (tL_224 T.1 m) (by omega) (by decide), trivial⟩⟩
    · cases h : cxt p 2097156 4096 0 n with
      | none => exact absurd h q
      | some k =>
        obtain ⟨_, ⟨x, _⟩, _⟩ := X33_claim T m V0 (l3 k h)
        exact ⟨x, trivial⟩
    · cases h : cxt p 2097152 4096 0 n with
      | none => exact absurd h q
      | some k => exact ⟨in_nI (tL_226 T.1 m) (l2 k h) (by decide), trivial⟩
    · cases h : cxt p 8192 128 0 n with
      | none => exact absurd h q
      | some k => exact ⟨in_nI (tL_225 T.1 m) (l1 k h) (by decide), trivial⟩
  refine Exists.imp (fun M' q => ⟨⟨hH _ ⟨c1.1, c2.1, c3.1, H3⟩, q.1⟩, q.2⟩) (?_ : ∃ M', _ = ((kRd p n K).1, M') ∧ VKc C M' (kRd p n K).2 ∧ FrC C M M')
  unfold kRd
  by_cases n4 : n % 4 = 0
  · rw [fi_pos n4]
    by_cases h128 : 128 ≤ n
    · rw [fi_pos h128, if_neg (by omega)]
      by_cases h4096 : n = 4096
      · rw [fi_pos h4096, if_pos h4096]
        exact ⟨M, rfl, V0, frC_r C M⟩
      · rw [fi_neg h4096, if_neg h4096]
        cases x1 : cxt p 8192 128 0 n with
        | some k =>
          rw [fi_neg (by simp)]
          dsimp only
          rw [show (wC (some k)).toNatClampNeg = k from o_cl (by have := l1 k x1; omega), v5 k (l1 k x1)]
          exact ⟨M, rfl, V0, frC_r C M⟩
        | none =>
          rw [fi_pos rfl]
          cases x2 : cxt p 2097152 4096 0 n with
          | some k =>
            rw [fi_neg (by simp)]
            dsimp only
            rw [show (wC (some k)).toNatClampNeg = k from o_cl (by have := l2 k x2; omega), v6 k (l2 k x2)]
            exact ⟨M, rfl, V0, frC_r C M⟩
          | none =>
            rw [fi_pos rfl]
            cases x3 : cxt p 2097156 4096 0 n with
            | none =>
              rw [fi_pos rfl]
              exact ⟨M, rfl, V0, frC_r C M⟩
            | some k =>
              rw [fi_neg (by simp)]
              obtain ⟨M', ⟨_, y2⟩, y3, y4, y5, y6⟩ := X33_claim T m V0 (l3 k x3)
              dsimp only
              rw [show GX33_claim C (wC (some k)) M = _ from y2]
              refine ⟨M', Prod.ext ?_ rfl, y5, y6⟩
              rw [y4]
              exact o_64 (by omega)
    · rw [fi_neg h128, if_pos ⟨n4, by omega⟩, o_cl (by omega), v4 (n / 4) (by omega)]
      exact ⟨M, rfl, V0, frC_r C M⟩
  · rw [fi_neg n4, if_neg (fun q => n4 q.1), if_neg (by omega), cxt_n4 (by decide) (by decide) n4, cxt_n4 (by decide) (by decide) n4, cxt_n4 (by decide) (by decide) n4]
    exact ⟨M, rfl, V0, frC_r C M⟩
end Cn
