/-! floats: the twin compares, chooses, tells classes: over the memory -/
set_option maxRecDepth 100000
section Tx
variable {M N K : FM} {f t d r fl i j a b : Nat} {s : Fs} {x y : Int64} {X Y : UU} {sx sy : Bool}
theorem vft_b (o : FlO f M) (v : VFt f M s) (ht : t ≤ 1) (ha : a < 32) : HX99_bitsOf f (nI a) (nI t) M ∧ GX99_bitsOf f (nI a) (nI t) M = (bO t (s.1 a), M) := by
  have h := X99_bitsOf o ht ha
  rw [v.1 a ha] at h
  exact h
theorem sv_n (o : FlO f M) {i : Nat} (hi : i < 3) (v : SV f i M X) (h4 : X.1 ≤ 4) : HX99_isNone f (nI i) M ∧ GX99_isNone f (nI i) M = (bz (3 ≤ X.1), M) := X99_isNone (K := fun _ => X.1) o hi v.1 h4
theorem sv_r (o : FlO f M) (h : Rs f 16 M (GX99_raiseFlags f (nI 16) M)) (v : SV f i M X) : SV f i (GX99_raiseFlags f (nI 16) M) X := by
  have e : (GX99_raiseFlags f (nI 16) M).2.2 = M.2.2 := h.1.2.1
  refine ⟨?_, ?_, ?_, ?_⟩
  · rw [e]
    exact v.1
  · rw [e]
    exact v.2.1
  · rw [e]
    exact v.2.2.1
  · rw [e]
    exact v.2.2.2
theorem X99_extreme (o : FlO f M) (v : VFt f M s) (ht : t ≤ 1) (hd : d < 32) (ha : a < 32) (hb : b < 32) (hr : r < 2) (v0 : SV f 0 M (rdU t a s)) (v1 : SV f 1 M (rdU t b s)) :
    PoT f t d s (some (if (rdU t a s).1 = 4 ∨ (rdU t b s).1 = 4 then 16 else 0, .inl (lN (ul (chB t r (bO t (s.1 a)) (bO t (s.1 b)) (rdU t a s) (rdU t b s)))))) (HX99_extreme f (nI d) (nI a) (nI b) (nI t) (nI r) M) (GX99_extreme f (nI d) (nI a) (nI b) (nI t) (nI r) M) M := by
  have gX := rdU_g ht a s
  have gY := rdU_g ht b s
  rw [lN_ul]
  have z1 : t = 0 → ul (bO t (s.1 a)) < 4294967296 := fun y => by rw [y]; exact bO_lt _
  have z2 : t = 0 → ul (bO t (s.1 b)) < 4294967296 := fun y => by rw [y]; exact bO_lt _
  have r0 : (nI r = 0) = (r = 0) := propext (ni_i (b := 0) (by omega) (by decide))
  have K26 : ∀ (fl : Nat) (K : FM), FlO f K → VFt f K (sFl fl s) → FrTF f M K → SV f 0 K (rdU t a s) → SV f 1 K (rdU t b s) → ∃ N, (HX99_extreme_26 f (nI d) (nI a) (nI b) (nI t) (nI r) K ∧ GX99_extreme_26 f (nI d) (nI a) (nI b) (nI t) (nI r) K = (Int32.ofInt 0, N)) ∧
      FrTF f M N ∧ VFt f N (fAp t d (some (fl, .inl (chB t r (bO t (s.1 a)) (bO t (s.1 b)) (rdU t a s) (rdU t b s)))) s).2 := fun fl K oK vK fK w0 w1 => by
    obtain ⟨n0, e0⟩ := sv_n oK (show 0 < 3 by decide) w0 gX.1
    obtain ⟨n1, e1⟩ := sv_n oK (show 1 < 3 by decide) w1 gY.1
    have W := fun z => po_tw (d := d) oK vK fK ht hd z
    have K108 : ∀ p : Prop, ¬ (3 ≤ (rdU t a s).1 ∧ 3 ≤ (rdU t b s).1) → (p ↔ fstT r (rdU t a s) (rdU t b s)) → ∃ N, (HX99_extreme_108 f (nI d) (nI a) (nI b) (nI t) (bz p) K ∧ GX99_extreme_108 f (nI d) (nI a) (nI b) (nI t) (bz p) K = (Int32.ofInt 0, N)) ∧
        FrTF f M N ∧ VFt f N (fAp t d (some (fl, .inl (chB t r (bO t (s.1 a)) (bO t (s.1 b)) (rdU t a s) (rdU t b s)))) s).2 := fun p hn hp => by
      have ec : chB t r (bO t (s.1 a)) (bO t (s.1 b)) (rdU t a s) (rdU t b s) = fi (fstT r (rdU t a s) (rdU t b s)) (bO t (s.1 a)) (bO t (s.1 b)) := ch_e ht hr z1 z2 hn
      rw [ec]
      unfold HX99_extreme_108 GX99_extreme_108 HX99_extreme_123 GX99_extreme_123
      dsimp only
      obtain ⟨b1, b2⟩ := vft_b (a := a) oK vK ht ha
      obtain ⟨b3, b4⟩ := vft_b (a := b) oK vK ht hb
      have b2 : GX99_bitsOf f (nI a) (nI t) K = (bO t (s.1 a), K) := b2
      have b4 : GX99_bitsOf f (nI b) (nI t) K = (bO t (s.1 b), K) := b4
      rw [b2, b4, fi_bz]
      dsimp only
      by_cases q : p
      · obtain ⟨N, ⟨h, e⟩, n⟩ := W (bO t (s.1 a))
        rw [fi_pos q, bz_t q, fi_pos (hp.mp q), e]
        exact ⟨N, ⟨⟨fun z => absurd z (by decide), fun _ => ⟨b1, h, trivial⟩⟩, rfl⟩, n⟩
      · obtain ⟨N, ⟨h, e⟩, n⟩ := W (bO t (s.1 b))
        rw [fi_neg q, bz_f q, fi_neg (fun z => q (hp.mpr z)), e]
        exact ⟨N, ⟨⟨fun _ => ⟨b3, h, trivial⟩, fun z => absurd rfl z⟩, rfl⟩, n⟩
    have yes := fun (hn : ¬ (3 ≤ (rdU t a s).1 ∧ 3 ≤ (rdU t b s).1)) (h : fstT r (rdU t a s) (rdU t b s)) => K108 True hn ⟨fun _ => h, fun _ => trivial⟩
    have no := fun (hn : ¬ (3 ≤ (rdU t a s).1 ∧ 3 ≤ (rdU t b s).1)) (h : ¬ fstT r (rdU t a s) (rdU t b s)) => K108 False hn ⟨fun z => z.elim, fun z => h z⟩
    rw [bz_t trivial] at yes
    rw [bz_f (fun z => z)] at no
    have K55 : ¬ (3 ≤ (rdU t a s).1 ∧ 3 ≤ (rdU t b s).1) → ∃ N, (HX99_extreme_55 f (nI d) (nI a) (nI b) (nI t) (nI r) K ∧ GX99_extreme_55 f (nI d) (nI a) (nI b) (nI t) (nI r) K = (Int32.ofInt 0, N)) ∧
        FrTF f M N ∧ VFt f N (fAp t d (some (fl, .inl (chB t r (bO t (s.1 a)) (bO t (s.1 b)) (rdU t a s) (rdU t b s)))) s).2 := fun hn => by
      unfold HX99_extreme_55 GX99_extreme_55 HX99_extreme_107 GX99_extreme_107 HX99_extreme_103 GX99_extreme_103
      rw [show Int32.ofInt 1 = nI 1 from rfl, e1]
      dsimp only
      rw [show Int32.ofInt 0 = nI 0 from rfl, e0]
      dsimp only
      rw [fi_bz, fi_bz, r0]
      by_cases q1 : 3 ≤ (rdU t b s).1
      · obtain ⟨N, ⟨h, e⟩, n⟩ := yes hn (Or.inl q1)
        rw [fi_pos q1, bz_t q1]
        exact ⟨N, ⟨⟨n1, fun z => absurd z (by decide), fun _ => h⟩, e⟩, n⟩
      · rw [fi_neg q1, bz_f q1]
        by_cases q0 : 3 ≤ (rdU t a s).1
        · obtain ⟨N, ⟨h, e⟩, n⟩ := no hn (fun z => z.elim q1 (fun w => w.1 q0))
          rw [fi_pos q0, bz_t q0]
          exact ⟨N, ⟨⟨n1, fun _ => ⟨n0, fun z => absurd z (by decide), fun _ => h⟩, fun z => absurd rfl z⟩, e⟩, n⟩
        · rw [fi_neg q0, bz_f q0]
          obtain ⟨ho, eo⟩ := X99_order (s := sFl fl s) oK vK ht ha hb w0 w1 (show (rdU t a s).1 ≤ 2 by omega) (show (rdU t b s).1 ≤ 2 by omega) True
          rw [bz_t trivial] at ho eo
          have ho : HX99_order f (nI a) (nI b) (nI t) (nI 1) K := ho
          have eo : GX99_order f (nI a) (nI b) (nI t) (nI 1) K = (Int32.ofInt (ordT True (rdU t a s) (rdU t b s)), K) := eo
          rw [eo]
          dsimp only
          have ob : -1 ≤ ordT True (rdU t a s) (rdU t b s) ∧ ordT True (rdU t a s) (rdU t b s) ≤ 1 := by
            have := ordU_b (rdU t a s) (rdU t b s)
            unfold ordT
            by_cases w : (rdU t a s).1 = 0 ∧ (rdU t b s).1 = 0 ∧ True
            · rw [fi_pos w]
              split <;> split <;> omega
            · rw [fi_neg w]
              exact this
          have gt0 : (0 < Int32.ofInt (ordT True (rdU t a s) (rdU t b s))) = (0 < ordT True (rdU t a s) (rdU t b s)) := propext (iz_lt (a := 0) (by omega))
          have lt0 : (Int32.ofInt (ordT True (rdU t a s) (rdU t b s)) < 0) = (ordT True (rdU t a s) (rdU t b s) < 0) := propext (iz_lt (b := 0) (by omega))
          rw [gt0, lt0]
          by_cases c0 : r = 0
          · rw [fi_pos c0]
            by_cases c1 : 0 < ordT True (rdU t a s) (rdU t b s)
            · obtain ⟨N, ⟨h, e⟩, n⟩ := no hn (fun z => z.elim q1 (fun w => w.2.elim (fun w => by omega) (fun w => w.1 c0)))
              rw [fi_pos c1]
              exact ⟨N, ⟨⟨n1, fun _ => ⟨n0, fun _ => ⟨fun _ => ⟨ho, fun _ => h, fun z => absurd c1 z⟩, fun z => absurd c0 z⟩, fun z => absurd rfl z⟩, fun z => absurd rfl z⟩, e⟩, n⟩
            · obtain ⟨N, ⟨h, e⟩, n⟩ := yes hn (Or.inr ⟨q0, Or.inl ⟨c0, by omega⟩⟩)
              rw [fi_neg c1]
              exact ⟨N, ⟨⟨n1, fun _ => ⟨n0, fun _ => ⟨fun _ => ⟨ho, fun z => absurd z c1, fun _ => h⟩, fun z => absurd c0 z⟩, fun z => absurd rfl z⟩, fun z => absurd rfl z⟩, e⟩, n⟩
          · rw [fi_neg c0]
            by_cases c1 : ordT True (rdU t a s) (rdU t b s) < 0
            · obtain ⟨N, ⟨h, e⟩, n⟩ := no hn (fun z => z.elim q1 (fun w => w.2.elim (fun w => c0 w.1) (fun w => by omega)))
              rw [fi_pos c1]
              exact ⟨N, ⟨⟨n1, fun _ => ⟨n0, fun _ => ⟨fun z => absurd z c0, fun _ => ⟨ho, fun _ => h, fun z => absurd c1 z⟩⟩, fun z => absurd rfl z⟩, fun z => absurd rfl z⟩, e⟩, n⟩
            · obtain ⟨N, ⟨h, e⟩, n⟩ := yes hn (Or.inr ⟨q0, Or.inr ⟨c0, by omega⟩⟩)
              rw [fi_neg c1]
              exact ⟨N, ⟨⟨n1, fun _ => ⟨n0, fun _ => ⟨fun z => absurd z c0, fun _ => ⟨ho, fun z => absurd z c1, fun _ => h⟩⟩, fun z => absurd rfl z⟩, fun z => absurd rfl z⟩, e⟩, n⟩
    unfold HX99_extreme_26 GX99_extreme_26
    rw [show Int32.ofInt 0 = nI 0 from rfl, e0]
    dsimp only
    rw [show Int32.ofInt 1 = nI 1 from rfl, e1]
    dsimp only
    rw [fi_bz, fi_bz, X99_quiet ht]
    dsimp only
    by_cases q0 : 3 ≤ (rdU t a s).1
    · rw [fi_pos q0, bz_t q0]
      by_cases q1 : 3 ≤ (rdU t b s).1
      · rw [fi_pos q1, bz_t q1]
        have ec : chB t r (bO t (s.1 a)) (bO t (s.1 b)) (rdU t a s) (rdU t b s) = lN (qN t) := by
          unfold chB
          rw [if_pos ⟨q0, q1⟩]
        rw [ec]
        obtain ⟨N, ⟨h, e⟩, n⟩ := W (lN (qN t))
        rw [e]
        exact ⟨N, ⟨⟨n0, fun z => absurd z (by decide), fun _ => ⟨n1, fun z => absurd z (by decide), fun _ => ⟨h, trivial⟩⟩⟩, rfl⟩, n⟩
      · rw [fi_neg q1, bz_f q1]
        obtain ⟨N, ⟨h, e⟩, n⟩ := K55 (fun z => q1 z.2)
        exact ⟨N, ⟨⟨n0, fun z => absurd z (by decide), fun _ => ⟨n1, fun _ => h, fun z => absurd rfl z⟩⟩, e⟩, n⟩
    · rw [fi_neg q0, bz_f q0]
      obtain ⟨N, ⟨h, e⟩, n⟩ := K55 (fun z => q0 z.1)
      exact ⟨N, ⟨⟨n0, fun _ => h, fun z => absurd rfl z⟩, e⟩, n⟩
  unfold HX99_extreme HX99_extreme_0 GX99_extreme GX99_extreme_0 HX99_extreme_20 GX99_extreme_20
  dsimp only
  rw [cl0, cl1]
  have k0 := kdI (v := 4) v0 gX (by decide)
  have k1 := kdI (v := 4) v1 gY (by decide)
  rw [show ((4 : Nat) : Int) = 4 from rfl] at k0 k1
  rw [propext k0, propext k1]
  have R16 := X99_raiseFlags (f := f) (fl := 16) o.1 (by decide)
  have A : (rdU t a s).1 = 4 ∨ (rdU t b s).1 = 4 → _ := fun q => K26 16 (GX99_raiseFlags f (nI 16) M) (frF_o o R16.1) (vFt_r o v R16) (frT_f R16.1) (sv_r o R16 v0) (sv_r o R16 v1)
  have B := K26 0 M o (by rw [sFl_0]; exact v) (frT_rF o.1) v0 v1
  by_cases q0 : (rdU t a s).1 = 4
  · rw [fi_pos q0, if_pos (Or.inl q0)]
    obtain ⟨N, ⟨h, e⟩, n⟩ := A (Or.inl q0)
    exact ⟨N, ⟨⟨fun _ => h, fun z => absurd q0 z⟩, e⟩, n⟩
  · rw [fi_neg q0]
    by_cases q1 : (rdU t b s).1 = 4
    · rw [fi_pos q1, if_pos (Or.inr q1)]
      obtain ⟨N, ⟨h, e⟩, n⟩ := A (Or.inr q1)
      exact ⟨N, ⟨⟨fun z => absurd z q0, fun _ => ⟨fun _ => h, fun z => absurd q1 z⟩⟩, e⟩, n⟩
    · rw [fi_neg q1, if_neg (fun z => z.elim q0 q1)]
      obtain ⟨N, ⟨h, e⟩, n⟩ := B
      exact ⟨N, ⟨⟨fun z => absurd z q0, fun _ => ⟨fun z => absurd z q1, fun _ => h⟩⟩, e⟩, n⟩
end Tx
