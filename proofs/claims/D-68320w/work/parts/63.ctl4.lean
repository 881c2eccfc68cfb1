/-! control registers: the twin's traps, and both -/
set_option maxRecDepth 100000
section Tt
variable {u d : Nat} {k : Int32} {Mc Mt : FM}
theorem mde3 {m : Int32} (h : mde m) : (Int32.ofInt 3 ≤ m) ↔ m = Int32.ofInt 3 := by
  rcases h with rfl | rfl | rfl <;> decide
theorem mdeb {m : Int32} (h : mde m) (h3 : ¬ m = Int32.ofInt 3) : m = bz (m = Int32.ofInt 1) := by
  rcases h with rfl | rfl | rfl
  · rw [bz_f (c := Int32.ofInt 0 = Int32.ofInt 1) (by decide)]
  · rw [bz_t (c := Int32.ofInt 1 = Int32.ofInt 1) rfl]
  · exact absurd rfl h3
theorem h361 (T : Ty Mt) (n : fm_is Mt 95 95 d = true) {i : Int32} (hi : ui i < 4096) : fm_in Mt (Mt.2.2 361 d 0) i = true := in_u (tL_361 T.1 n) hi (by decide)
theorem X100_trap (T : Ty Mt) (n : fm_is Mt 95 95 d = true) (hm : mde (Mt.1 360 d 0)) (i c : Int32) {kc : Nat} (hc : ui c = kc) (hk : kc < 64) (v p : Int64) :
    HX100_trap d i c v p Mt ∧ GX100_trap d i c v p Mt = fi (¬ Mt.1 360 d 0 = Int32.ofInt 3 ∧ lb (fi (i = 0) (ht Mt d 770) (ht Mt d 771)) kc = true)
      (bg (ht Mt d 261) i c, ttM d 321 322 323 1 i c v p (bg (ht Mt d 261) i c) (trS (ht Mt d 768) (Mt.1 360 d 0)) Mt)
      (bg (ht Mt d 773) i c, ttM d 833 834 835 3 i c v p (bg (ht Mt d 773) i c) (trM (ht Mt d 768) (Mt.1 360 d 0)) Mt) := by
  have hin : ∀ {j : Int32}, ui j < 4096 → fm_in Mt (Mt.2.2 361 d 0) j = true := fun hi => h361 T n hi
  have e12 : Int32.ofInt 12 = Int32.ofInt 11 + Int32.ofInt 1 := rfl
  have q224 : ∀ {g : Int32} {N : FM}, N.2.2 = Mt.2.2 → HX100_trap_224 d i c g N := fun {g N} e => by
    have hh : ∀ {j : Int32}, ui j < 4096 → fm_in N (N.2.2 361 d 0) j = true := fun {j} hj => by
      unfold fm_in
      rw [e]
      exact hin hj
    exact ⟨fun _ => ⟨hh (by decide), trivial⟩, fun _ => ⟨hh (by decide), trivial⟩⟩
  have HH : ∀ (w : Int64) (g s0 : Int32), s0 = Int32.ofInt 832 ∨ s0 = Int32.ofInt 320 → HX100_trap_101 d i c v p w g s0 (fm_sI Mt 358 d 0 (Int32.ofInt 0)) := by
    intro w g s0 hs
    have a1 : ui (s0 + Int32.ofInt 1) < 4096 ∧ ui (s0 + Int32.ofInt 2) < 4096 ∧ ui (s0 + Int32.ofInt 3) < 4096 := by rcases hs with rfl | rfl <;> decide
    exact ⟨hin a1.1, hin a1.2.1, hin a1.2.2, fun _ => q224 rfl, fun _ => q224 rfl⟩
  -- to the machine
  have kM : GX100_trap_101 d i c v p (tld i c) (Int32.ofInt 0) (Int32.ofInt 832) (fm_sI Mt 358 d 0 (Int32.ofInt 0)) = (bg (ht Mt d 773) i c, ttM d 833 834 835 3 i c v p (bg (ht Mt d 773) i c) (trM (ht Mt d 768) (Mt.1 360 d 0)) Mt) := by
    have eN : ∀ b, b ≠ 833 → b ≠ 834 → b ≠ 835 → (fm_sL (fm_sL (fm_sL (fm_sI Mt 358 d 0 (Int32.ofInt 0)) 3 (Mt.2.2 361 d 0) 833 (p &&& Int64.ofInt (-2))) 3 (Mt.2.2 361 d 0) 834 (tld i c)) 3 (Mt.2.2 361 d 0) 835 v).2.1 3 (Mt.2.2 361 d 0) b = ht Mt d b := fun b h1 h2 h3 => by
      rw [rL, if_neg (fun z => h3 z.2.2), rL, if_neg (fun z => h2 z.2.2), rL, if_neg (fun z => h1 z.2.2)]
      rfl
    have k139 : GX100_trap_139 d i c (Int32.ofInt 0) (fm_sL (fm_sL (fm_sL (fm_sI Mt 358 d 0 (Int32.ofInt 0)) 3 (Mt.2.2 361 d 0) 833 (p &&& Int64.ofInt (-2))) 3 (Mt.2.2 361 d 0) 834 (tld i c)) 3 (Mt.2.2 361 d 0) 835 v) = (bg (ht Mt d 773) i c, ttM d 833 834 835 3 i c v p (bg (ht Mt d 773) i c) (trM (ht Mt d 768) (Mt.1 360 d 0)) Mt) := by
      unfold GX100_trap_139 GX100_trap_224 GX100_trap_243
      rw [fi_pos (c := Int32.ofInt 0 = 0) rfl]
      dsimp only
      rw [e12, show ∀ g, (GX100_put d (Int32.ofInt 11) g (fm_sL (fm_sL (fm_sL (fm_sI Mt 358 d 0 (Int32.ofInt 0)) 3 (Mt.2.2 361 d 0) 833 (p &&& Int64.ofInt (-2))) 3 (Mt.2.2 361 d 0) 834 (tld i c)) 3 (Mt.2.2 361 d 0) 835 v)).1 360 d 0 = Mt.1 360 d 0 from fun _ => rfl, show (fm_sL (fm_sL (fm_sL (fm_sI Mt 358 d 0 (Int32.ofInt 0)) 3 (Mt.2.2 361 d 0) 833 (p &&& Int64.ofInt (-2))) 3 (Mt.2.2 361 d 0) 834 (tld i c)) 3 (Mt.2.2 361 d 0) 835 v).1 360 d 0 = Mt.1 360 d 0 from rfl, X100_put2]
      rw [show (fm_sL (fm_sL (fm_sL (fm_sI Mt 358 d 0 (Int32.ofInt 0)) 3 (Mt.2.2 361 d 0) 833 (p &&& Int64.ofInt (-2))) 3 (Mt.2.2 361 d 0) 834 (tld i c)) 3 (Mt.2.2 361 d 0) 835 v).2.2 361 d 0 = Mt.2.2 361 d 0 from rfl, eN 768 (by decide) (by decide) (by decide)]
      rw [X100_status (k := 3) rfl (by decide)]
      dsimp only
      rw [show ∀ x, (fm_sL (fm_sL (fm_sL (fm_sL (fm_sI Mt 358 d 0 (Int32.ofInt 0)) 3 (Mt.2.2 361 d 0) 833 (p &&& Int64.ofInt (-2))) 3 (Mt.2.2 361 d 0) 834 (tld i c)) 3 (Mt.2.2 361 d 0) 835 v) 3 (Mt.2.2 361 d 0) 768 x).2.2 361 d 0 = Mt.2.2 361 d 0 from fun _ => rfl, sL_at, X100_put, X100_put]
      rw [show ∀ x, (fm_sL (fm_sL (fm_sL (fm_sL (fm_sI Mt 358 d 0 (Int32.ofInt 0)) 3 (Mt.2.2 361 d 0) 833 (p &&& Int64.ofInt (-2))) 3 (Mt.2.2 361 d 0) 834 (tld i c)) 3 (Mt.2.2 361 d 0) 835 v) 3 (Mt.2.2 361 d 0) 768 x).2.2 361 d 0 = Mt.2.2 361 d 0 from fun _ => rfl, sL_at, sL_same]
      rw [show ∀ x, (fm_sL (fm_sL (fm_sL (fm_sL (fm_sI Mt 358 d 0 (Int32.ofInt 0)) 3 (Mt.2.2 361 d 0) 833 (p &&& Int64.ofInt (-2))) 3 (Mt.2.2 361 d 0) 834 (tld i c)) 3 (Mt.2.2 361 d 0) 835 v) 3 (Mt.2.2 361 d 0) 768 x).2.2 361 d 0 = Mt.2.2 361 d 0 from fun _ => rfl, sL_at, sL_same, bz0]
      rw [fi_pos (c := bz False = 0) (bz_0.mpr id), X100_beginning]
      dsimp only
      have e773 : ∀ x, (fm_sI (fm_sL (fm_sL (fm_sL (fm_sL (fm_sI Mt 358 d 0 (bz False)) 3 (Mt.2.2 361 d 0) 833 (p &&& Int64.ofInt (-2))) 3 (Mt.2.2 361 d 0) 834 (tld i c)) 3 (Mt.2.2 361 d 0) 835 v) 3 (Mt.2.2 361 d 0) 768 x) 360 d 0 (Int32.ofInt 3)).2.1 3 ((fm_sI (fm_sL (fm_sL (fm_sL (fm_sL (fm_sI Mt 358 d 0 (bz False)) 3 (Mt.2.2 361 d 0) 833 (p &&& Int64.ofInt (-2))) 3 (Mt.2.2 361 d 0) 834 (tld i c)) 3 (Mt.2.2 361 d 0) 835 v) 3 (Mt.2.2 361 d 0) 768 x) 360 d 0 (Int32.ofInt 3)).2.2 361 d 0) (Int32.ofInt 773).toNatClampNeg = ht Mt d 773 := fun x => by
        rw [rI1, show (Int32.ofInt 773).toNatClampNeg = 773 from rfl, show ∀ y, (fm_sI (fm_sL (fm_sL (fm_sL (fm_sL (fm_sI Mt 358 d 0 (bz False)) 3 (Mt.2.2 361 d 0) 833 (p &&& Int64.ofInt (-2))) 3 (Mt.2.2 361 d 0) 834 (tld i c)) 3 (Mt.2.2 361 d 0) 835 v) 3 (Mt.2.2 361 d 0) 768 x) 360 d 0 y).2.2 361 d 0 = Mt.2.2 361 d 0 from fun _ => rfl, rL, if_neg (fun z => absurd z.2.2 (by decide)), ← bz0]
        exact eN 773 (by decide) (by decide) (by decide)
      rw [e773]
      unfold ttM trM
      rw [bz0, show nI 3 = Int32.ofInt 3 from rfl]
    unfold GX100_trap_101 GX100_trap_118 GX100_trap_129
    exact k139
  have kS : ¬ Mt.1 360 d 0 = Int32.ofInt 3 → GX100_trap_101 d i c v p (tld i c) (Int32.ofInt 1) (Int32.ofInt 320) (fm_sI Mt 358 d 0 (Int32.ofInt 0)) = (bg (ht Mt d 261) i c, ttM d 321 322 323 1 i c v p (bg (ht Mt d 261) i c) (trS (ht Mt d 768) (Mt.1 360 d 0)) Mt) := by
    intro h3
    have eN : ∀ b, b ≠ 321 → b ≠ 322 → b ≠ 323 → (fm_sL (fm_sL (fm_sL (fm_sI Mt 358 d 0 (Int32.ofInt 0)) 3 (Mt.2.2 361 d 0) 321 (p &&& Int64.ofInt (-2))) 3 (Mt.2.2 361 d 0) 322 (tld i c)) 3 (Mt.2.2 361 d 0) 323 v).2.1 3 (Mt.2.2 361 d 0) b = ht Mt d b := fun b h1 h2 h3 => by
      rw [rL, if_neg (fun z => h3 z.2.2), rL, if_neg (fun z => h2 z.2.2), rL, if_neg (fun z => h1 z.2.2)]
      rfl
    have k139 : GX100_trap_139 d i c (Int32.ofInt 1) (fm_sL (fm_sL (fm_sL (fm_sI Mt 358 d 0 (Int32.ofInt 0)) 3 (Mt.2.2 361 d 0) 321 (p &&& Int64.ofInt (-2))) 3 (Mt.2.2 361 d 0) 322 (tld i c)) 3 (Mt.2.2 361 d 0) 323 v) = (bg (ht Mt d 261) i c, ttM d 321 322 323 1 i c v p (bg (ht Mt d 261) i c) (trS (ht Mt d 768) (Mt.1 360 d 0)) Mt) := by
      unfold GX100_trap_139 GX100_trap_224 GX100_trap_243
      rw [fi_neg (c := Int32.ofInt 1 = 0) (by decide)]
      dsimp only
      rw [show (fm_sL (fm_sL (fm_sL (fm_sI Mt 358 d 0 (Int32.ofInt 0)) 3 (Mt.2.2 361 d 0) 321 (p &&& Int64.ofInt (-2))) 3 (Mt.2.2 361 d 0) 322 (tld i c)) 3 (Mt.2.2 361 d 0) 323 v).1 360 d 0 = Mt.1 360 d 0 from rfl, X100_put (b := Int32.ofInt 8), show (fm_sL (fm_sL (fm_sL (fm_sI Mt 358 d 0 (Int32.ofInt 0)) 3 (Mt.2.2 361 d 0) 321 (p &&& Int64.ofInt (-2))) 3 (Mt.2.2 361 d 0) 322 (tld i c)) 3 (Mt.2.2 361 d 0) 323 v).2.2 361 d 0 = Mt.2.2 361 d 0 from rfl, eN 768 (by decide) (by decide) (by decide)]
      rw [X100_status (k := 1) rfl (by decide)]
      dsimp only
      rw [show ∀ x, (fm_sL (fm_sL (fm_sL (fm_sL (fm_sI Mt 358 d 0 (Int32.ofInt 0)) 3 (Mt.2.2 361 d 0) 321 (p &&& Int64.ofInt (-2))) 3 (Mt.2.2 361 d 0) 322 (tld i c)) 3 (Mt.2.2 361 d 0) 323 v) 3 (Mt.2.2 361 d 0) 768 x).2.2 361 d 0 = Mt.2.2 361 d 0 from fun _ => rfl, sL_at, X100_put (b := Int32.ofInt 5), X100_put (b := Int32.ofInt 1)]
      rw [show ∀ x, (fm_sL (fm_sL (fm_sL (fm_sL (fm_sI Mt 358 d 0 (Int32.ofInt 0)) 3 (Mt.2.2 361 d 0) 321 (p &&& Int64.ofInt (-2))) 3 (Mt.2.2 361 d 0) 322 (tld i c)) 3 (Mt.2.2 361 d 0) 323 v) 3 (Mt.2.2 361 d 0) 768 x).2.2 361 d 0 = Mt.2.2 361 d 0 from fun _ => rfl, sL_at, sL_same]
      rw [show ∀ x, (fm_sL (fm_sL (fm_sL (fm_sL (fm_sI Mt 358 d 0 (Int32.ofInt 0)) 3 (Mt.2.2 361 d 0) 321 (p &&& Int64.ofInt (-2))) 3 (Mt.2.2 361 d 0) 322 (tld i c)) 3 (Mt.2.2 361 d 0) 323 v) 3 (Mt.2.2 361 d 0) 768 x).2.2 361 d 0 = Mt.2.2 361 d 0 from fun _ => rfl, sL_at, sL_same]
      rw [fi_neg (c := Int32.ofInt 1 = 0) (by decide), X100_beginning]
      dsimp only
      have e261 : ∀ x, (fm_sI (fm_sL (fm_sL (fm_sL (fm_sL (fm_sI Mt 358 d 0 (Int32.ofInt 0)) 3 (Mt.2.2 361 d 0) 321 (p &&& Int64.ofInt (-2))) 3 (Mt.2.2 361 d 0) 322 (tld i c)) 3 (Mt.2.2 361 d 0) 323 v) 3 (Mt.2.2 361 d 0) 768 x) 360 d 0 (Int32.ofInt 1)).2.1 3 ((fm_sI (fm_sL (fm_sL (fm_sL (fm_sL (fm_sI Mt 358 d 0 (Int32.ofInt 0)) 3 (Mt.2.2 361 d 0) 321 (p &&& Int64.ofInt (-2))) 3 (Mt.2.2 361 d 0) 322 (tld i c)) 3 (Mt.2.2 361 d 0) 323 v) 3 (Mt.2.2 361 d 0) 768 x) 360 d 0 (Int32.ofInt 1)).2.2 361 d 0) (Int32.ofInt 261).toNatClampNeg = ht Mt d 261 := fun x => by
        rw [rI1, show (Int32.ofInt 261).toNatClampNeg = 261 from rfl, show ∀ y, (fm_sI (fm_sL (fm_sL (fm_sL (fm_sL (fm_sI Mt 358 d 0 (Int32.ofInt 0)) 3 (Mt.2.2 361 d 0) 321 (p &&& Int64.ofInt (-2))) 3 (Mt.2.2 361 d 0) 322 (tld i c)) 3 (Mt.2.2 361 d 0) 323 v) 3 (Mt.2.2 361 d 0) 768 x) 360 d 0 y).2.2 361 d 0 = Mt.2.2 361 d 0 from fun _ => rfl, rL, if_neg (fun z => absurd z.2.2 (by decide))]
        exact eN 261 (by decide) (by decide) (by decide)
      rw [e261, sL_at]
      unfold ttM trS
      rw [← mdeb hm h3, ← bz0, show nI 1 = Int32.ofInt 1 from rfl]
    unfold GX100_trap_101 GX100_trap_118 GX100_trap_129
    exact k139
  have c0 : ¬ c < 0 := by
    rw [show (0 : Int32) = Int32.ofInt 0 from rfl, i_lt (by omega) (by decide)]
    exact Nat.not_lt_zero _
  have c63 : c ≤ Int32.ofInt 63 := by
    rw [i_le (by omega) (by decide), hc]
    show kc ≤ 63
    omega
  have z0 : (fm_sI Mt 358 d 0 (Int32.ofInt 0)).1 358 d 0 ≤ 0 := by
    rw [rI, if_pos ⟨rfl, rfl, rfl⟩]
    decide
  have k84 : GX100_trap_84 d i c v p (tld i c) (fm_sI Mt 358 d 0 (Int32.ofInt 0)) = (bg (ht Mt d 773) i c, ttM d 833 834 835 3 i c v p (bg (ht Mt d 773) i c) (trM (ht Mt d 768) (Mt.1 360 d 0)) Mt) := by
    unfold GX100_trap_84 GX100_trap_85
    rw [fi_pos (c := Int32.ofInt 0 = 0) rfl]
    exact kM
  have k70 : ∀ j : Int32, ¬ Mt.1 360 d 0 = Int32.ofInt 3 → GX100_trap_70 d i c v p (tld i c) (Mt.2.2 361 d 0) j (fm_sI Mt 358 d 0 (Int32.ofInt 0)) = fi (lb (ht Mt d j.toNatClampNeg) kc = true) (bg (ht Mt d 261) i c, ttM d 321 322 323 1 i c v p (bg (ht Mt d 261) i c) (trS (ht Mt d 768) (Mt.1 360 d 0)) Mt)
      (bg (ht Mt d 773) i c, ttM d 833 834 835 3 i c v p (bg (ht Mt d 773) i c) (trM (ht Mt d 768) (Mt.1 360 d 0)) Mt) := by
    intro j h3
    unfold GX100_trap_70
    rw [show (fm_sI Mt 358 d 0 (Int32.ofInt 0)).2.1 3 (Mt.2.2 361 d 0) j.toNatClampNeg = ht Mt d j.toNatClampNeg from rfl]
    by_cases hb : lb (ht Mt d j.toNatClampNeg) kc = true
    · rw [fi_pos ((bit_c1 _ hc hk).mpr hb), fi_pos hb]
      unfold GX100_trap_85
      rw [fi_neg (c := Int32.ofInt 1 = 0) (by decide)]
      exact kS h3
    · rw [fi_neg (fun z => hb ((bit_c1 _ hc hk).mp z)), fi_neg hb, k84]
  have k43 : GX100_trap_43 d i c v p (tld i c) (fm_sI Mt 358 d 0 (Int32.ofInt 0)) = fi (¬ Mt.1 360 d 0 = Int32.ofInt 3 ∧ lb (fi (i = 0) (ht Mt d 770) (ht Mt d 771)) kc = true) (bg (ht Mt d 261) i c, ttM d 321 322 323 1 i c v p (bg (ht Mt d 261) i c) (trS (ht Mt d 768) (Mt.1 360 d 0)) Mt)
      (bg (ht Mt d 773) i c, ttM d 833 834 835 3 i c v p (bg (ht Mt d 773) i c) (trM (ht Mt d 768) (Mt.1 360 d 0)) Mt) := by
    unfold GX100_trap_43
    rw [show (fm_sI Mt 358 d 0 (Int32.ofInt 0)).1 360 d 0 = Mt.1 360 d 0 from rfl, show (fm_sI Mt 358 d 0 (Int32.ofInt 0)).2.2 361 d 0 = Mt.2.2 361 d 0 from rfl]
    by_cases h3 : Mt.1 360 d 0 = Int32.ofInt 3
    · rw [fi_pos ((mde3 hm).mpr h3), fi_neg (fun z => z.1 h3), k84]
    · rw [fi_neg (fun z => h3 ((mde3 hm).mp z)), k70 _ h3, k70 _ h3]
      by_cases h : i = 0
      · rw [fi_pos h, fi_pos h]
        exact fi_c ⟨fun z => ⟨h3, z⟩, fun z => z.2⟩
      · rw [fi_neg h, fi_neg h]
        exact fi_c ⟨fun z => ⟨h3, z⟩, fun z => z.2⟩
  have h84 : ∀ w, HX100_trap_84 d i c v p w (fm_sI Mt 358 d 0 (Int32.ofInt 0)) := fun w => ⟨fun _ => HH w _ _ (Or.inl rfl), fun _ => HH w _ _ (Or.inr rfl)⟩
  have h85 : ∀ w, HX100_trap_85 d i c v p w (Int32.ofInt 1) (fm_sI Mt 358 d 0 (Int32.ofInt 0)) := fun w => ⟨fun _ => HH w _ _ (Or.inl rfl), fun _ => HH w _ _ (Or.inr rfl)⟩
  have h43 : ∀ w, HX100_trap_43 d i c v p w (fm_sI Mt 358 d 0 (Int32.ofInt 0)) := fun w => ⟨fun _ => h84 w, fun _ => ⟨fun _ => ⟨hin (by decide), fun _ => h85 w, fun _ => h84 w⟩, fun _ => ⟨hin (by decide), fun _ => h85 w, fun _ => h84 w⟩⟩⟩
  refine ⟨⟨fun q => absurd q c0, fun _ => ⟨fun _ => ⟨fun _ => ⟨fun _ => h43 _, fun _ => h43 _⟩, fun _ => trivial⟩, fun q => absurd c63 q⟩⟩, ?_⟩
  unfold GX100_trap GX100_trap_0
  rw [fi_neg c0, fi_pos c63]
  unfold GX100_trap_16
  dsimp only
  rw [fi_pos z0, ← k43]
  unfold tld
  by_cases h : i = 0
  · rw [fi_pos h, fi_pos h]
  · rw [fi_neg h, fi_neg h]
end Tt
