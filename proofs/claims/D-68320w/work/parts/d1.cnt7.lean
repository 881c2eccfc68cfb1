/-! the controller: the component's writes -/
set_option maxRecDepth 100000
noncomputable def kWr (F : Nat → Int64 → Kr → Kr) (p n : Nat) (v : Int64) (K : Kr) : Kr :=
  if 0 < n ∧ n < 128 ∧ n % 4 = 0 then (K.1, K.2.1, K.2.2.1, updS K.2.2.2.1 (n / 4) (v.toInt32 &&& Int32.ofInt 7), K.2.2.2.2) else
  match cxt p 8192 128 0 n with
  | some c => (K.1, K.2.1, K.2.2.1, K.2.2.2.1, updS K.2.2.2.2.1 c (v.toInt32 &&& Int32.ofInt (-2)), K.2.2.2.2.2)
  | none => match cxt p 2097152 4096 0 n with
    | some c => (K.1, K.2.1, K.2.2.1, K.2.2.2.1, K.2.2.2.2.1, updS K.2.2.2.2.2 c (v.toInt32 &&& Int32.ofInt 7))
    | none => match cxt p 2097156 4096 0 n with
      | some c => F c v K
      | none => K
/-- a source is complete: the twin's, and the component's, which looks at once -/
noncomputable def kCm (c : Nat) (v : Int64) (K : Kr) : Kr := if 0 < ul v % 4294967296 ∧ ul v % 4294967296 < 32 ∧ ib (K.2.2.2.2.1 c) (ul v % 4294967296) = true then (K.1, K.2.1, off1 K.2.2.1 (ul v % 4294967296), K.2.2.2) else K
noncomputable def kLk (K : Kr) : Kr := (K.1, K.2.1 ||| (K.1 &&& (K.2.2.1 ^^^ Int32.ofInt (-1))), K.2.2)
noncomputable def kCmC (c : Nat) (v : Int64) (K : Kr) : Kr := if 0 < ul v % 4294967296 ∧ ul v % 4294967296 < 32 ∧ ib (K.2.2.2.2.1 c) (ul v % 4294967296) = true then kLk (K.1, K.2.1, off1 K.2.2.1 (ul v % 4294967296), K.2.2.2) else K
theorem cxt_0 {p base each within n : Nat} (h : n < base) : cxt p base each within n = none := by
  unfold cxt
  rw [if_neg (by omega)]
theorem cxt_x1 {p n k : Nat} (h4 : p ≤ 4) (h : cxt p 8192 128 0 n = some k) : cxt p 2097152 4096 0 n = none ∧ cxt p 2097156 4096 0 n = none := by
  unfold cxt at h
  split at h
  · exact ⟨cxt_0 (by omega), cxt_0 (by omega)⟩
  · cases h
theorem cxt_x2 {p n k : Nat} (h : cxt p 2097152 4096 0 n = some k) : cxt p 2097156 4096 0 n = none := by
  unfold cxt at h ⊢
  split at h
  · rw [if_neg (by omega)]
  · cases h
section Cn
variable {C p n : Nat} {M : FM} {K : Kr}
theorem c_ne3 (T : Ty M) (W : Wf M) (m : fm_is M 77 77 C = true) : M.2.2 224 C 0 ≠ M.2.2 225 C 0 ∧ M.2.2 224 C 0 ≠ M.2.2 226 C 0 ∧ M.2.2 225 C 0 ≠ M.2.2 226 C 0 := by
  have n1 := fm_ist (lo := 901) rfl (tN_224 T.1 m)
  have n2 := fm_ist (lo := 901) rfl (tN_225 T.1 m)
  have s1 : Sf M (M.2.2 224 C 0) 224 := W.2.1.1 (77, 77, 224, 224) (by decide) C m
  have s2 : Sf M (M.2.2 225 C 0) 225 := W.2.1.1 (77, 77, 225, 225) (by decide) C m
  have s3 : Sf M (M.2.2 226 C 0) 226 := W.2.1.1 (77, 77, 226, 226) (by decide) C m
  exact ⟨site_ne W s1 s2 (by decide) n1, site_ne W s1 s3 (by decide) n1, site_ne W s2 s3 (by decide) n2⟩
theorem X33_complete (T : Ty M) (m : fm_is M 77 77 C = true) (V : VKc C M K) {c : Nat} (hc : c < 8) (v : Int64) :
    ∃ M', (HX33_complete C (nI c) (v &&& Int64.ofInt 4294967295) M ∧ GX33_complete C (nI c) (v &&& Int64.ofInt 4294967295) M = M') ∧ VKc C M' (kCmC c v K) ∧ FrC C M M' := by
  have V0 := V
  obtain ⟨v1, v2, v3, v4, v5, v6⟩ := V
  have lo := and_lo v
  generalize hx : v &&& Int64.ofInt 4294967295 = x at *
  have hs : ul x < 4294967296 := by rw [lo]; exact Nat.mod_lt _ (by decide)
  have tx : x.toInt = ul x := by rw [tl, if_pos (by omega)]
  have c1 : lg_cmp x (Int64.ofInt 0) ≤ 0 ↔ ¬ 0 < ul x := by rw [cl_le, tx]; show (ul x : Int) ≤ 0 ↔ _; omega
  have c2 : 0 ≤ lg_cmp x (Int64.ofInt 32) ↔ ¬ ul x < 32 := by rw [cl_ge, tx]; show (32 : Int) ≤ ul x ↔ _; omega
  have x32 : x.toInt32 = nI (ul x) := by
    apply ui_inj
    rw [ui_low, ui_nI]
  unfold HX33_complete HX33_complete_0 GX33_complete GX33_complete_0 GX33_complete_48
  dsimp only
  rw [propext c1, propext c2, x32, o_cl (by omega), v5 c hc]
  have hH : ((¬ 0 < ul x → True) ∧ (¬ ¬ 0 < ul x → ((¬ ul x < 32 → True) ∧ (¬ ¬ ul x < 32 → (fm_in M (M.2.2 225 C 0) (nI c) = true ∧ True))))) := ⟨fun _ => trivial, fun _ => ⟨fun _ => trivial, fun _ => ⟨in_nI (tL_225 T.1 m) hc (by decide), trivial⟩⟩⟩
  refine Exists.imp (fun M' q => ⟨⟨hH, q.1⟩, q.2⟩) (?_ : ∃ M', _ = M' ∧ VKc C M' (kCmC c v K) ∧ FrC C M M')
  unfold kCmC
  rw [← lo]
  by_cases h1 : 0 < ul x
  · rw [fi_neg (fun y => y h1)]
    by_cases h2 : ul x < 32
    · rw [fi_neg (fun y => y h2), bit_1 h2, propext bz_i1]
      by_cases h3 : ib (K.2.2.2.2.1 c) (ul x) = true
      · rw [fi_pos h3, if_pos ⟨h1, h2, h3⟩]
        refine ⟨_, rfl, ⟨?_, ?_, ?_, v4, v5, v6⟩, ?_⟩
        · unfold GX33_look GX33_look_0
          rw [rIf (by decide), rIf (by decide)]
          exact v1
        · unfold GX33_look GX33_look_0
          rw [rI, if_pos ⟨rfl, rfl, rfl⟩, rIf (by decide), rIf (by decide), rI, if_pos ⟨rfl, rfl, rfl⟩, v1, v2, v3]
          rfl
        · unfold GX33_look GX33_look_0
          rw [rIf (by decide), rI, if_pos ⟨rfl, rfl, rfl⟩, v3]
          rfl
        · unfold GX33_look GX33_look_0
          exact frC_I (frC_I (frC_r C M) (by decide)) (by decide)
      · rw [fi_neg h3, if_neg (fun q => h3 q.2.2)]
        exact ⟨M, rfl, V0, frC_r C M⟩
    · rw [fi_pos h2, if_neg (fun q => h2 q.2.1)]
      exact ⟨M, rfl, V0, frC_r C M⟩
  · rw [fi_pos h1, if_neg (fun q => h1 q.1)]
    exact ⟨M, rfl, V0, frC_r C M⟩
theorem X33_write (T : Ty M) (W : Wf M) (m : fm_is M 77 77 C = true) (hp : M.1 223 C 0 = nI (2 * p)) (h4 : p ≤ 4) (hn : n < 2147483648) (V : VKc C M K) (v : Int64) :
    ∃ M', (HX33_write C (lN n) (Int32.ofInt 4) v M ∧ GX33_write C (lN n) (Int32.ofInt 4) v M = M') ∧ VKc C M' (kWr kCmC p n v K) ∧ FrC C M M' := by
  obtain ⟨d1, d2, d3⟩ := c_ne3 T W m
  have V0 := V
  obtain ⟨v1, v2, v3, v4, v5, v6⟩ := V
  have c1 := X33_contextAt (C := C) (M := M) (n := n) hp h4 hn (show 8192 < 2147483648 by decide) (show 0 < 128 ∧ 128 < 2147483648 by decide) (show 0 < 2147483648 by decide)
  have c2 := X33_contextAt (C := C) (M := M) (n := n) hp h4 hn (show 2097152 < 2147483648 by decide) (show 0 < 4096 ∧ 4096 < 2147483648 by decide) (show 0 < 2147483648 by decide)
  have c3 := X33_contextAt (C := C) (M := M) (n := n) hp h4 hn (show 2097152 < 2147483648 by decide) (show 0 < 4096 ∧ 4096 < 2147483648 by decide) (show 4 < 2147483648 by decide)
  rw [cxt_4] at c3
  have a3 : lg_cmp (lN n &&& Int64.ofInt 3) (Int64.ofInt 0) = 0 ↔ n % 4 = 0 := by
    rw [show Int64.ofInt 3 = lN (2 ^ 2 - 1) from rfl, o_and hn 2 (by decide), show Int64.ofInt 0 = lN 0 from rfl]
    exact o_eq (by omega) (by decide)
  have g0 : lg_cmp (lN n) (Int64.ofInt 0) ≤ 0 ↔ ¬ 0 < n := (o_le hn (show 0 < 2147483648 by decide)).trans (by omega)
  have g128 : 0 ≤ lg_cmp (lN n) (Int64.ofInt 128) ↔ ¬ n < 128 := (o_ge hn (show 128 < 2147483648 by decide)).trans (by omega)
  have l1 : ∀ k, cxt p 8192 128 0 n = some k → k < 8 := fun k h => by have := cxt_lt h; omega
  have l2 : ∀ k, cxt p 2097152 4096 0 n = some k → k < 8 := fun k h => by have := cxt_lt h; omega
  have l3 : ∀ k, cxt p 2097156 4096 0 n = some k → k < 8 := fun k h => by have := cxt_lt h; omega
  have n1 := wC_neg (cxt p 8192 128 0 n) (fun k h => by have := l1 k h; omega)
  have n2 := wC_neg (cxt p 2097152 4096 0 n) (fun k h => by have := l2 k h; omega)
  have n3 := wC_neg (cxt p 2097156 4096 0 n) (fun k h => by have := l3 k h; omega)
  have r88 : ¬ (0 < n ∧ n < 128 ∧ n % 4 = 0) → ∃ M', (HX33_write_88 C v (wC (cxt p 8192 128 0 n)) (wC (cxt p 2097152 4096 0 n)) (wC (cxt p 2097156 4096 0 n)) M ∧ GX33_write_88 C v (wC (cxt p 8192 128 0 n)) (wC (cxt p 2097152 4096 0 n)) (wC (cxt p 2097156 4096 0 n)) M = M') ∧ VKc C M' (kWr kCmC p n v K) ∧ FrC C M M' := fun nb => by
    unfold HX33_write_88 GX33_write_88 GX33_write_147 kWr
    dsimp only
    rw [propext n1, propext n2, propext n3, if_neg nb]
    cases x1 : cxt p 8192 128 0 n with
    | some k =>
      have hk := l1 k x1
      have inn : fm_in M (M.2.2 225 C 0) (wC (some k)) = true := in_nI (tL_225 T.1 m) hk (by decide)
      rw [fi_neg (show ¬ some k = none by simp)]
      dsimp only
      rw [show (wC (some k)).toNatClampNeg = k from o_cl (by omega)]
      refine ⟨_, ⟨⟨fun y => (by cases y), fun _ => ⟨inn, trivial⟩⟩, rfl⟩, ⟨v1, v2, v3, fun s hs => ?_, fun s hs => ?_, fun s hs => ?_⟩, frC_A (frC_r C M) (Or.inr (Or.inl rfl))⟩
      · show (fm_sI M 3 (M.2.2 225 C 0) k _).1 3 (M.2.2 224 C 0) s = _
        rw [rI, if_neg (fun q => d1 q.2.1)]
        exact v4 s hs
      · show (fm_sI M 3 (M.2.2 225 C 0) k _).1 3 (M.2.2 225 C 0) s = updS K.2.2.2.2.1 k _ s
        unfold updS
        rw [rI]
        by_cases e : s = k
        · rw [if_pos ⟨rfl, rfl, e⟩, if_pos e]
        · rw [if_neg (fun q => e q.2.2), if_neg e]
          exact v5 s hs
      · show (fm_sI M 3 (M.2.2 225 C 0) k _).1 3 (M.2.2 226 C 0) s = _
        rw [rI, if_neg (fun q => d3 q.2.1.symm)]
        exact v6 s hs
    | none =>
      rw [fi_pos (show (none : Option Nat) = none from rfl)]
      cases x2 : cxt p 2097152 4096 0 n with
      | some k =>
        have hk := l2 k x2
        have inn : fm_in M (M.2.2 226 C 0) (wC (some k)) = true := in_nI (tL_226 T.1 m) hk (by decide)
        rw [fi_neg (show ¬ some k = none by simp)]
        dsimp only
        rw [show (wC (some k)).toNatClampNeg = k from o_cl (by omega)]
        refine ⟨_, ⟨⟨fun _ => ⟨fun y => (by cases y), fun _ => ⟨inn, trivial⟩⟩, fun y => absurd rfl y⟩, rfl⟩, ⟨v1, v2, v3, fun s hs => ?_, fun s hs => ?_, fun s hs => ?_⟩, frC_A (frC_r C M) (Or.inr (Or.inr rfl))⟩
        · show (fm_sI M 3 (M.2.2 226 C 0) k _).1 3 (M.2.2 224 C 0) s = _
          rw [rI, if_neg (fun q => d2 q.2.1)]
          exact v4 s hs
        · show (fm_sI M 3 (M.2.2 226 C 0) k _).1 3 (M.2.2 225 C 0) s = _
          rw [rI, if_neg (fun q => d3 q.2.1)]
          exact v5 s hs
        · show (fm_sI M 3 (M.2.2 226 C 0) k _).1 3 (M.2.2 226 C 0) s = updS K.2.2.2.2.2 k _ s
          unfold updS
          rw [rI]
          by_cases e : s = k
          · rw [if_pos ⟨rfl, rfl, e⟩, if_pos e]
          · rw [if_neg (fun q => e q.2.2), if_neg e]
            exact v6 s hs
      | none =>
        rw [fi_pos (show (none : Option Nat) = none from rfl)]
        cases x3 : cxt p 2097156 4096 0 n with
        | none =>
          rw [fi_pos (show (none : Option Nat) = none from rfl)]
          exact ⟨M, ⟨⟨fun _ => ⟨fun _ => ⟨fun _ => trivial, fun y => absurd rfl y⟩, fun y => absurd rfl y⟩, fun y => absurd rfl y⟩, rfl⟩, V0, frC_r C M⟩
        | some k =>
          rw [fi_neg (show ¬ some k = none by simp)]
          obtain ⟨M', ⟨y1, y2⟩, y3, y4⟩ := X33_complete T m V0 (l3 k x3) v
          exact ⟨M', ⟨⟨fun _ => ⟨fun _ => ⟨fun y => (by cases y), fun _ => ⟨y1, trivial⟩⟩, fun y => absurd rfl y⟩, fun y => absurd rfl y⟩, y2⟩, y3, y4⟩
  unfold HX33_write HX33_write_0 GX33_write GX33_write_0 GX33_write_147 GX33_write_15
  dsimp only
  rw [fi_pos (show Int32.ofInt 4 = Int32.ofInt 4 from rfl), show GX33_contextAt C (lN n) (Int32.ofInt 8192) (Int32.ofInt 128) (Int32.ofInt 0) M = _ from c1.2]
  dsimp only
  rw [show GX33_contextAt C (lN n) (Int32.ofInt 2097152) (Int32.ofInt 4096) (Int32.ofInt 0) M = _ from c2.2]
  dsimp only
  rw [show GX33_contextAt C (lN n) (Int32.ofInt 2097152) (Int32.ofInt 4096) (Int32.ofInt 4) M = _ from c3.2]
  dsimp only
  rw [propext a3, propext g128, propext g0, o_q4 hn]
  have hH : ∀ P : Prop, (n % 4 = 0 → P) → ((Int32.ofInt 4 = Int32.ofInt 4 → ((n % 4 = 0 → (HX33_contextAt C (lN n) (Int32.ofInt 8192) (Int32.ofInt 128) (Int32.ofInt 0) M ∧ HX33_contextAt C (lN n) (Int32.ofInt 2097152) (Int32.ofInt 4096) (Int32.ofInt 0) M ∧ HX33_contextAt C (lN n) (Int32.ofInt 2097152) (Int32.ofInt 4096) (Int32.ofInt 4) M ∧ P)) ∧ (¬ n % 4 = 0 → True))) ∧ (¬ (Int32.ofInt 4 = Int32.ofInt 4) → True)) := fun P h => ⟨fun _ => ⟨fun z => ⟨c1.1, c2.1, c3.1, h z⟩, fun _ => trivial⟩, fun _ => trivial⟩
  by_cases n4 : n % 4 = 0
  · rw [fi_pos n4]
    by_cases hb : 0 < n ∧ n < 128
    · rw [fi_neg (fun y => y hb.1), fi_neg (fun y => y hb.2), o_cl (by omega)]
      refine ⟨_, ⟨hH _ (fun _ => ⟨fun y => absurd hb.1 y, fun _ => ⟨fun y => absurd hb.2 y, fun _ => ⟨in_nI (tL_224 T.1 m) (by omega) (by decide), trivial⟩⟩⟩), rfl⟩, ?_, frC_A (frC_r C M) (Or.inl rfl)⟩
      unfold kWr
      rw [if_pos ⟨hb.1, hb.2, n4⟩]
      refine ⟨v1, v2, v3, fun s hs => ?_, fun s hs => ?_, fun s hs => ?_⟩
      · show (fm_sI M 3 (M.2.2 224 C 0) (n / 4) _).1 3 (M.2.2 224 C 0) s = updS K.2.2.2.1 (n / 4) _ s
        unfold updS
        rw [rI]
        by_cases e : s = n / 4
        · rw [if_pos ⟨rfl, rfl, e⟩, if_pos e]
        · rw [if_neg (fun q => e q.2.2), if_neg e]
          exact v4 s hs
      · show (fm_sI M 3 (M.2.2 224 C 0) (n / 4) _).1 3 (M.2.2 225 C 0) s = _
        rw [rI, if_neg (fun q => d1 q.2.1.symm)]
        exact v5 s hs
      · show (fm_sI M 3 (M.2.2 224 C 0) (n / 4) _).1 3 (M.2.2 226 C 0) s = _
        rw [rI, if_neg (fun q => d2 q.2.1.symm)]
        exact v6 s hs
    · obtain ⟨M', ⟨x1, x2⟩, x3, x4⟩ := r88 (fun y => hb ⟨y.1, y.2.1⟩)
      refine ⟨M', ⟨hH _ (fun _ => ⟨fun _ => x1, fun y => ⟨fun _ => x1, fun w => absurd ⟨Classical.not_not.mp y, Classical.not_not.mp w⟩ hb⟩⟩), ?_⟩, x3, x4⟩
      by_cases z : 0 < n
      · rw [fi_neg (fun y => y z), fi_pos (fun y => hb ⟨z, y⟩)]
        exact x2
      · rw [fi_pos z]
        exact x2
  · rw [fi_neg n4]
    refine ⟨M, ⟨hH _ (fun y => absurd y n4), rfl⟩, ?_, frC_r C M⟩
    unfold kWr
    rw [if_neg (fun q => n4 q.2.2), cxt_n4 (by decide) (by decide) n4, cxt_n4 (by decide) (by decide) n4, cxt_n4 (by decide) (by decide) n4]
    exact V0
end Cn
