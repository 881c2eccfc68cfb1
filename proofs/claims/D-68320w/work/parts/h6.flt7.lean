/-! floats: the twin rounds -/
set_option maxRecDepth 100000
theorem p2F {t : Nat} (ht : t ≤ 1) : (2 ^ fF t = 8388608 ∧ fF t = 23 ∧ fG t = 127 ∧ fS t = 31 ∧ t = 0 ∨ 2 ^ fF t = 4503599627370496 ∧ fF t = 52 ∧ fG t = 1023 ∧ fS t = 63 ∧ t = 1) ∧ 2 ^ (fF t + 1) = 2 * 2 ^ fF t := by
  refine ⟨?_, by rw [Nat.pow_succ, Nat.mul_comm]⟩
  rcases fF_b ht with ⟨a, b, c, d⟩ | ⟨a, b, c, d⟩
  · exact Or.inl ⟨by rw [a], a, b, c, d⟩
  · exact Or.inr ⟨by rw [a], a, b, c, d⟩
theorem iz_64 {z : Int} (h : 0 ≤ z ∧ z ≤ 1000000000) : (Int32.ofInt z).toInt64 = lN z.toNat := by
  obtain ⟨n, rfl⟩ : ∃ n : Nat, z = n := ⟨z.toNat, by omega⟩
  rw [← iz_nI, o_64 (by omega)]
  rfl
theorem shl_n {c n : Nat} (hn : n < 63) (hc : c * 2 ^ n < 18446744073709551616) : lN c <<< ((Int32.ofInt (n : Int)).toInt64 &&& 63) = lN (c * 2 ^ n) := by
  have p := Nat.two_pow_pos n
  have hc2 : c < 18446744073709551616 := Nat.lt_of_le_of_lt (Nat.le_mul_of_pos_right c p) hc
  apply ul_inj
  rw [ul_shl, l_big hc2, iz_ui0 (by omega), show n % 64 = n by omega, l_big hc, Nat.mod_eq_of_lt hc]
section Rd
variable {M N : FM} {f A md t U c : Nat} {sg mo : Bool} {sc u3 : Int} {sm : Prop}
theorem bh_uS {a : Nat} {V : Int64} {l : Int32} (h : BH M a A) : BH (uS f V l M) a A :=
  ⟨h.1, fun k hk => by rw [uS_o (fun q => by omega)]; exact h.2 k hk⟩
theorem X99_r266 (ht : t ≤ 1) (h4 : N.2.1 384 f 0 = lN U) (h2 : N.1 382 f 0 = bz (sg = true)) (hU : U < 2 ^ (fF t + 1)) (hu : 1 - (fG t : Int) - fF t ≤ u3 ∧ u3 + fF t ≤ fG t) :
    GX99_rounded_266 f (nI t) (Int32.ofInt (fF t)) (Int32.ofInt (1 - (fG t : Int) - fF t)) (Int32.ofInt u3) N = (lN (if U < 2 ^ fF t then pk t sg 0 U else pk t sg (u3 + fF t + fG t).toNat (U - 2 ^ fF t)), N) := by
  obtain ⟨b, b2⟩ := p2F ht
  have p63 : (2 : Nat) ^ 63 = 9223372036854775808 := by decide
  have e1 : Int64.ofInt 1 <<< ((Int32.ofInt (fF t : Int)).toInt64 &&& 63) = lN (2 ^ fF t) := by
    have := shl_n (c := 1) (n := fF t) (by omega) (by omega)
    rw [Nat.one_mul] at this
    exact this
  have e2 : Int32.ofInt u3 - Int32.ofInt (1 - (fG t : Int) - fF t) + Int32.ofInt 1 = Int32.ofInt (u3 + fF t + fG t) := by
    rw [iz_s, iz_a]
    congr 1
    omega
  unfold GX99_rounded_266 GX99_rounded_317
  dsimp only
  rw [h4, h2, e1, e2, iz_64 (by omega)]
  by_cases q : U < 2 ^ fF t
  · rw [fi_neg (fun z => by have := (b_ge (by omega) (by omega)).mp z; omega), if_pos q, show Int64.ofInt 0 = lN 0 from rfl, X99_pack ht (Nat.two_pow_pos _) (Or.inl q)]
  · rw [fi_pos ((b_ge (by omega) (by omega)).mpr (by omega)), if_neg q, l_s (by omega) (by omega)]
    rw [X99_pack ht (by rcases b with b | b <;> rw [b.2.1, b.2.2.2.1] <;> omega) (Or.inl (by omega))]
theorem X99_r151 (o : FlO f N) (ht : t ≤ 1) (hm : md ≤ 4) (h4 : N.2.1 384 f 0 = lN U) (h2 : N.1 382 f 0 = bz (sg = true)) (h5 : N.1 385 f 0 = bz (c ≠ 0)) (hU : U < 2 ^ (fF t + 1)) (hu : 1 - (fG t : Int) - fF t ≤ u3 ∧ u3 ≤ 100000) :
    ∃ X, (HX99_rounded_151 f (nI t) (nI md) (Int32.ofInt (fF t)) (Int32.ofInt (fG t)) (Int32.ofInt (1 - (fG t : Int) - fF t)) (bz sm) (Int32.ofInt u3) N ∧
      GX99_rounded_151 f (nI t) (nI md) (Int32.ofInt (fF t)) (Int32.ofInt (fG t)) (Int32.ofInt (1 - (fG t : Int) - fF t)) (bz sm) (Int32.ofInt u3) N =
        (lN (if (fG t : Int) < u3 + fF t then (if lps md sg = true then pk t sg (2 * fG t + 1) 0 else pk t sg (2 * fG t) (2 ^ fF t - 1)) else if U < 2 ^ fF t then pk t sg 0 U else pk t sg (u3 + fF t + fG t).toNat (U - 2 ^ fF t)), X)) ∧
      Rs f (if (fG t : Int) < u3 + fF t then 5 else fi (c = 0) 0 (fi sm 3 1)) N X := by
  obtain ⟨b, b2⟩ := p2F ht
  have cmp : Int32.ofInt u3 + Int32.ofInt (fF t : Int) ≤ Int32.ofInt (fG t : Int) ↔ u3 + fF t ≤ fG t := by rw [iz_a]; exact iz_le (by omega)
  have kp : ∀ fl, fl ≠ 0 → Rs f fl N (GX99_raiseFlags f (nI fl) N) ∧ (GX99_raiseFlags f (nI fl) N).2.1 384 f 0 = lN U ∧ (GX99_raiseFlags f (nI fl) N).1 382 f 0 = bz (sg = true) := fun fl hf => by
    refine ⟨X99_raiseFlags o.1 hf, h4, ?_⟩
    rw [← h2]
    unfold GX99_raiseFlags GX99_raiseFlags_0
    dsimp only
    rw [rI, if_neg (fun z => by omega), rI, if_neg (fun z => by omega)]
  unfold HX99_rounded_151 GX99_rounded_151 GX99_rounded_263
  by_cases q : u3 + fF t ≤ fG t
  · have hq : ¬ ((fG t : Int) < u3 + fF t) := by omega
    rw [fi_pos (cmp.mpr q), if_neg hq, if_neg hq, h5, fi_bz]
    by_cases q2 : c = 0
    · rw [fi_neg (fun z => z q2), fi_pos q2, X99_r266 ht h4 h2 hU (by omega)]
      exact ⟨N, ⟨⟨fun _ => trivial, fun z => absurd (cmp.mpr q) z⟩, rfl⟩, rs_r o.1⟩
    · rw [fi_pos (show c ≠ 0 from q2), fi_neg q2, fi_bz]
      by_cases q3 : sm
      · rw [fi_pos q3, fi_pos q3]
        obtain ⟨k1, k2, k3⟩ := kp 3 (by decide)
        refine ⟨_, ⟨⟨fun _ => trivial, fun z => absurd (cmp.mpr q) z⟩, ?_⟩, k1⟩
        exact X99_r266 ht k2 k3 hU (by omega)
      · rw [fi_neg q3, fi_neg q3]
        obtain ⟨k1, k2, k3⟩ := kp 1 (by decide)
        refine ⟨_, ⟨⟨fun _ => trivial, fun z => absurd (cmp.mpr q) z⟩, ?_⟩, k1⟩
        exact X99_r266 ht k2 k3 hU (by omega)
  · obtain ⟨k1, k2, k3⟩ := kp 5 (by decide)
    have hq : (fG t : Int) < u3 + fF t := by omega
    rw [fi_neg (fun z => q (cmp.mp z)), if_pos hq, if_pos hq]
    have ok := frF_o o k1.1
    have i0 : fm_in (GX99_raiseFlags f (nI 5) N) ((GX99_raiseFlags f (nI 5) N).2.2 374 f 0) (nI t) = true := in_nI (tL_374 ok.1.1 ok.2.1) (by omega) (by decide)
    have gr := fl_gr ok ht
    generalize hX : GX99_raiseFlags f (nI 5) N = X at *
    rw [show GX99_raiseFlags f (Int32.ofInt 5) N = X from hX]
    dsimp only
    have e196 : HX99_rounded_196 f (nI t) (Int32.ofInt (fF t)) (bz (lps md sg = true)) X ∧ GX99_rounded_196 f (nI t) (Int32.ofInt (fF t)) (bz (lps md sg = true)) X = (lN (if lps md sg = true then pk t sg (2 * fG t + 1) 0 else pk t sg (2 * fG t) (2 ^ fF t - 1)), X) := by
      refine ⟨⟨fun _ => ⟨i0, trivial⟩, fun _ => ⟨i0, trivial⟩⟩, ?_⟩
      unfold GX99_rounded_196 GX99_rounded_244
      dsimp only
      rw [fi_bz, o_cl (by omega), gr, k3]
      by_cases q2 : lps md sg = true
      · rw [fi_pos q2, if_pos q2, iz_64 (by omega), show Int64.ofInt 0 = lN 0 from rfl, X99_pack ht (by rcases b with b | b <;> rw [b.2.1, b.2.2.2.1, b.2.2.1] <;> decide) (Or.inl (Nat.two_pow_pos _))]
        rfl
      · have e1 : Int64.ofInt 1 <<< ((Int32.ofInt (fF t : Int)).toInt64 &&& 63) = lN (2 ^ fF t) := by
          have := shl_n (c := 1) (n := fF t) (by omega) (by omega)
          rw [Nat.one_mul] at this
          exact this
        rw [fi_neg q2, if_neg q2, iz_s, iz_64 (by omega), e1, show Int64.ofInt 1 = lN 1 from rfl, l_s (by omega) (by omega), show (((2 * fG t + 1 : Nat) : Int) - 1).toNat = 2 * fG t by omega]
        rw [X99_pack ht (by rcases b with b | b <;> rw [b.2.1, b.2.2.2.1, b.2.2.1] <;> decide) (Or.inl (by omega))]
    refine ⟨X, ⟨⟨fun z => absurd (cmp.mp z) q, fun _ => ?_⟩, ?_⟩, k1⟩
    · have p1 : HX99_rounded_196 f (nI t) (Int32.ofInt (fF t)) (Int32.ofInt 1) X := ⟨fun _ => ⟨i0, trivial⟩, fun _ => ⟨i0, trivial⟩⟩
      have p0 : HX99_rounded_196 f (nI t) (Int32.ofInt (fF t)) (Int32.ofInt 0) X := ⟨fun _ => ⟨i0, trivial⟩, fun _ => ⟨i0, trivial⟩⟩
      exact ⟨fun _ => p1, fun _ => ⟨fun _ => p1, fun _ => ⟨fun _ => ⟨fun _ => p1, fun _ => p0⟩, fun _ => ⟨fun _ => p1, fun _ => p0⟩⟩⟩⟩
    · rw [← e196.2]
      unfold GX99_rounded_188 GX99_rounded_191
      rw [k3, propext bzo]
      rcases (show md = 0 ∨ md = 1 ∨ md = 2 ∨ md = 3 ∨ md = 4 by omega) with e | e | e | e | e <;> subst e
      · rw [fi_pos (show nI 0 = 0 from rfl), bz_t (show lps 0 sg = true by cases sg <;> rfl)]
      · rw [fi_neg (show ¬ nI 1 = 0 by decide), fi_neg (show ¬ nI 1 = Int32.ofInt 4 by decide), bz_f (show ¬ lps 1 sg = true by cases sg <;> decide)]
        cases sg
        · rw [fi_neg (by decide), fi_neg (show ¬ nI 1 = Int32.ofInt 3 by decide)]
        · rw [fi_pos rfl, fi_neg (show ¬ nI 1 = Int32.ofInt 2 by decide)]
      · rw [fi_neg (show ¬ nI 2 = 0 by decide), fi_neg (show ¬ nI 2 = Int32.ofInt 4 by decide)]
        cases sg
        · rw [fi_neg (by decide), fi_neg (show ¬ nI 2 = Int32.ofInt 3 by decide), bz_f (show ¬ lps 2 false = true by decide)]
        · rw [fi_pos rfl, fi_pos (show nI 2 = Int32.ofInt 2 from rfl), bz_t (show lps 2 true = true by decide)]
      · rw [fi_neg (show ¬ nI 3 = 0 by decide), fi_neg (show ¬ nI 3 = Int32.ofInt 4 by decide)]
        cases sg
        · rw [fi_neg (by decide), fi_pos (show nI 3 = Int32.ofInt 3 from rfl), bz_t (show lps 3 false = true by decide)]
        · rw [fi_pos rfl, fi_neg (show ¬ nI 3 = Int32.ofInt 2 by decide), bz_f (show ¬ lps 3 true = true by decide)]
      · rw [fi_neg (show ¬ nI 4 = 0 by decide), fi_pos (show nI 4 = Int32.ofInt 4 from rfl), bz_t (show lps 4 sg = true by cases sg <;> rfl)]
theorem uS_uS {U V : Int64} {k l : Int32} : uS f V l (uS f U k M) = uS f V l M := by
  unfold uS
  rw [sI_L, sL_same, sI_same]
/-- a whole number, not 0, is rounded -/
theorem X99_rounded (o : FlO f M) (ht : t ≤ 1) (hm : md ≤ 4) (hB : BH M (M.2.2 379 f 0) A) (hA : A ≠ 0) (hs : M.1 382 f 0 = bz (sg = true)) (hc : M.1 383 f 0 = Int32.ofInt sc) (ho : M.1 381 f 0 = bz (mo = true)) (hsc : -9000 ≤ sc ∧ sc ≤ 9000) :
    ∃ X, (HX99_rounded f (nI t) (nI md) M ∧ GX99_rounded f (nI t) (nI md) M = (lN (rnd t md sg A sc mo).1, X)) ∧ Rs f (rnd t md sg A sc mo).2 M X := by
  obtain ⟨b, b2⟩ := p2F ht
  have p63 : (2 : Nat) ^ 63 = 9223372036854775808 := by decide
  have bl : bln A ≤ 3520 := bln_le hB.1
  have bp := bln_pos hA
  have T := o.1
  have n := o.2.1
  have hl : M.2.2 1 (M.2.2 379 f 0) 0 = 220 := tL_379 T.1 n
  have na : fm_is M 901 901 (M.2.2 379 f 0) = true := tN_379 T.1 n
  obtain ⟨l1, l2⟩ := X99_length T na hl hB
  have i1 : fm_in M (M.2.2 372 f 0) (nI t) = true := in_nI (tL_372 T.1 n) (by omega) (by decide)
  have i2 : fm_in M (M.2.2 373 f 0) (nI t) = true := in_nI (tL_373 T.1 n) (by omega) (by decide)
  -- the two cuts
  have rt : ∀ (u : Int) (K : FM), (∃ U l, K = uS f U (bz l) M ∨ K = M) → -20000 ≤ u ∧ u ≤ 20000 → HX99_roundTo f (Int32.ofInt u) (nI md) K ∧ GX99_roundTo f (Int32.ofInt u) (nI md) K = uS f (lN (rnU md sg A mo (u - sc))) (bz (cuC A mo (u - sc) ≠ 0)) M := fun u K hK hu => by
    obtain ⟨U, l, hK | hK⟩ := hK <;> subst hK
    · obtain ⟨r1, r2⟩ := X99_roundTo (M := uS f U (bz l) M) (uS_ty T) n (bh_uS hB) hm (sg := sg) (by rw [← hs]; exact uS_o (fun q => by omega)) (sc := sc) (by rw [← hc]; exact uS_o (fun q => by omega)) (mo := mo) (by rw [← ho]; exact uS_o (fun q => by omega)) (u := u) (by omega)
      rw [uS_uS] at r2
      exact ⟨r1, r2⟩
    · exact X99_roundTo T n hB hm hs hc ho (by omega)
  generalize htop : (bln A : Int) - 1 + sc = top at *
  have u1 : bln A - (top - fF t - sc) ≤ ((fF t + 1 : Nat) : Int) := by omega
  have U1 : rnU md sg A mo (top - fF t - sc) ≤ 2 ^ (fF t + 1) := rnU_le u1
  have ex6 : nI (bln A) - Int32.ofInt 1 + Int32.ofInt sc = Int32.ofInt top := by rw [iz_nI, iz_s, iz_a, htop]
  have ex7 : Int32.ofInt 1 - Int32.ofInt (fG t : Int) - Int32.ofInt (fF t : Int) = Int32.ofInt (1 - (fG t : Int) - fF t) := by rw [iz_s, iz_s]
  have ex1 : Int32.ofInt 1 - Int32.ofInt (fG t : Int) = Int32.ofInt (1 - (fG t : Int)) := iz_s
  have exf : Int32.ofInt top - Int32.ofInt (fF t : Int) = Int32.ofInt (top - fF t) := iz_s
  have exn : -Int32.ofInt (fG t : Int) = Int32.ofInt (-(fG t : Int)) := iz_n
  have two : ∀ V, V ≤ 2 ^ (fF t + 1) → (lg_cmp (lN V) (Int64.ofInt 2 <<< ((Int32.ofInt (fF t : Int)).toInt64 &&& 63)) = 0 ↔ V = 2 ^ (fF t + 1)) := fun V hV => by
    rw [show Int64.ofInt 2 = lN 2 from rfl, shl_n (by omega) (by omega), cl_eq, l_big (by omega), l_big (by omega), b2]
  -- the rest, behind the first cut
  have r83 : ∀ (sm : Prop) (K : FM), (∃ U l, K = uS f U (bz l) M) → ∃ X, (HX99_rounded_83 f (nI t) (nI md) (Int32.ofInt (fF t)) (Int32.ofInt (fG t)) (Int32.ofInt top) (Int32.ofInt (1 - (fG t : Int) - fF t)) (bz sm) K ∧
      GX99_rounded_83 f (nI t) (nI md) (Int32.ofInt (fF t)) (Int32.ofInt (fG t)) (Int32.ofInt top) (Int32.ofInt (1 - (fG t : Int) - fF t)) (bz sm) K = (lN (let u2 : Int := if 1 - (fG t : Int) - fF t ≤ top - fF t then top - fF t else 1 - (fG t : Int) - fF t
  let U2 := rnU md sg A mo (u2 - sc)
  let U3 := if U2 = 2 ^ (fF t + 1) then 2 ^ fF t else U2
  let u3 := if U2 = 2 ^ (fF t + 1) then u2 + 1 else u2
  if (fG t : Int) < u3 + fF t then (if lps md sg = true then pk t sg (2 * fG t + 1) 0 else pk t sg (2 * fG t) (2 ^ fF t - 1))
  else (if U3 < 2 ^ fF t then pk t sg 0 U3 else pk t sg (u3 + fF t + fG t).toNat (U3 - 2 ^ fF t))), X)) ∧
      Rs f (let u2 : Int := if 1 - (fG t : Int) - fF t ≤ top - fF t then top - fF t else 1 - (fG t : Int) - fF t
  let U2 := rnU md sg A mo (u2 - sc)
  let u3 := if U2 = 2 ^ (fF t + 1) then u2 + 1 else u2
  if (fG t : Int) < u3 + fF t then 5 else fi (cuC A mo (u2 - sc) = 0) 0 (fi sm 3 1)) M X := fun sm K hK => by
    dsimp only
    generalize hu2 : (if 1 - (fG t : Int) - fF t ≤ top - fF t then top - fF t else 1 - (fG t : Int) - fF t) = u2
    have bu2 : 1 - (fG t : Int) - fF t ≤ u2 ∧ top - fF t ≤ u2 ∧ u2 ≤ 15000 := by split at hu2 <;> omega
    have U2 : rnU md sg A mo (u2 - sc) ≤ 2 ^ (fF t + 1) := rnU_le (by omega)
    obtain ⟨q1, q2⟩ := rt u2 K (by obtain ⟨U, l, h⟩ := hK; exact ⟨U, l, Or.inl h⟩) (by omega)
    generalize hV : rnU md sg A mo (u2 - sc) = V at *
    generalize hcc : cuC A mo (u2 - sc) = c at *
    have oS : ∀ (W : Int64), FlO f (uS f W (bz (c ≠ 0)) M) := fun W => frF_o o (rs_u T).1
    have r126 : ∃ X, (HX99_rounded_126 f (nI t) (nI md) (Int32.ofInt (fF t)) (Int32.ofInt (fG t)) (Int32.ofInt (1 - (fG t : Int) - fF t)) (bz sm) (Int32.ofInt u2) (uS f (lN V) (bz (c ≠ 0)) M) ∧
        GX99_rounded_126 f (nI t) (nI md) (Int32.ofInt (fF t)) (Int32.ofInt (fG t)) (Int32.ofInt (1 - (fG t : Int) - fF t)) (bz sm) (Int32.ofInt u2) (uS f (lN V) (bz (c ≠ 0)) M) =
          (lN (if (fG t : Int) < (if V = 2 ^ (fF t + 1) then u2 + 1 else u2) + fF t then (if lps md sg = true then pk t sg (2 * fG t + 1) 0 else pk t sg (2 * fG t) (2 ^ fF t - 1))
            else (if (if V = 2 ^ (fF t + 1) then 2 ^ fF t else V) < 2 ^ fF t then pk t sg 0 (if V = 2 ^ (fF t + 1) then 2 ^ fF t else V) else pk t sg ((if V = 2 ^ (fF t + 1) then u2 + 1 else u2) + fF t + fG t).toNat ((if V = 2 ^ (fF t + 1) then 2 ^ fF t else V) - 2 ^ fF t))), X)) ∧
        Rs f (if (fG t : Int) < (if V = 2 ^ (fF t + 1) then u2 + 1 else u2) + fF t then 5 else fi (c = 0) 0 (fi sm 3 1)) M X := by
      have h5 : ∀ W : Int64, (uS f W (bz (c ≠ 0)) M).1 385 f 0 = bz (c ≠ 0) := fun W => if_pos ⟨rfl, rfl, rfl⟩
      have h2 : ∀ W : Int64, (uS f W (bz (c ≠ 0)) M).1 382 f 0 = bz (sg = true) := fun W => by rw [← hs]; exact uS_o (fun q => by omega)
      have h4 : ∀ W : Int64, (uS f W (bz (c ≠ 0)) M).2.1 384 f 0 = W := fun W => if_pos ⟨rfl, rfl, rfl⟩
      have one : Int64.ofInt 1 <<< ((Int32.ofInt (fF t : Int)).toInt64 &&& 63) = lN (2 ^ fF t) := by
        have := shl_n (c := 1) (n := fF t) (by omega) (by omega)
        rw [Nat.one_mul] at this
        exact this
      have eS : fm_sL (uS f (lN V) (bz (c ≠ 0)) M) 384 f 0 (lN (2 ^ fF t)) = uS f (lN (2 ^ fF t)) (bz (c ≠ 0)) M := by
        unfold uS
        rw [sL_same]
      unfold HX99_rounded_126 GX99_rounded_126
      dsimp only
      rw [h4, propext (two V U2), one, eS, iz_a]
      by_cases q : V = 2 ^ (fF t + 1)
      · obtain ⟨X, ⟨x1, x2⟩, x3⟩ := X99_r151 (sm := sm) (u3 := u2 + 1) (oS (lN (2 ^ fF t))) ht hm (h4 _) (h2 _) (h5 _) (by omega) (by omega)
        rw [if_pos q, if_pos q, fi_pos q]
        exact ⟨X, ⟨⟨fun _ => x1, fun z => absurd q z⟩, x2⟩, rs_0t (rs_u T) x3⟩
      · obtain ⟨X, ⟨x1, x2⟩, x3⟩ := X99_r151 (sm := sm) (u3 := u2) (oS (lN V)) ht hm (h4 _) (h2 _) (h5 _) (by omega) (by omega)
        rw [if_neg q, if_neg q, fi_neg q]
        exact ⟨X, ⟨⟨fun z => absurd z q, fun _ => x1⟩, x2⟩, rs_0t (rs_u T) x3⟩
    obtain ⟨X, ⟨x1, x2⟩, x3⟩ := r126
    refine ⟨X, ⟨?_, ?_⟩, x3⟩
    · have h104 : HX99_rounded_104 f (nI t) (nI md) (Int32.ofInt (fF t)) (Int32.ofInt (fG t)) (Int32.ofInt top) (Int32.ofInt (1 - (fG t : Int) - fF t)) (bz sm) f (Int32.ofInt u2) K := by
        unfold HX99_rounded_104
        dsimp only
        rw [exf, q2]
        refine ⟨q1, fun z => ?_, fun z => ?_⟩
        · rw [iz_le (by omega)] at z
          rw [show top - (fF t : Int) = u2 by rw [← hu2, if_pos z]]
          exact x1
        · rw [iz_le (by omega)] at z
          rw [show 1 - (fG t : Int) - (fF t : Int) = u2 by rw [← hu2, if_neg z]] at x1 ⊢
          exact x1
      unfold HX99_rounded_83
      rw [exf]
      refine ⟨fun z => ?_, fun z => ?_⟩
      · rw [iz_le (by omega)] at z
        rw [show top - (fF t : Int) = u2 by rw [← hu2, if_pos z]]
        exact h104
      · rw [iz_le (by omega)] at z
        rw [show (Int32.ofInt (1 - (fG t : Int) - (fF t : Int))) = Int32.ofInt u2 by rw [← hu2, if_neg z]] at h104 ⊢
        exact h104
    · rw [← x2]
      unfold GX99_rounded_83 GX99_rounded_104
      dsimp only
      rw [exf]
      by_cases z : 1 - (fG t : Int) - fF t ≤ top - fF t
      · have z2 := (iz_le (a := 1 - (fG t : Int) - fF t) (b := top - fF t) (by omega)).mpr z
        rw [fi_pos z2, fi_pos z2, show top - (fF t : Int) = u2 by rw [← hu2, if_pos z], q2]
      · have z2 : ¬ Int32.ofInt (1 - (fG t : Int) - fF t) ≤ Int32.ofInt (top - fF t) := fun w => z ((iz_le (by omega)).mp w)
        rw [fi_neg z2, fi_neg z2]
        rw [show Int32.ofInt (1 - (fG t : Int) - (fF t : Int)) = Int32.ofInt u2 by rw [← hu2, if_neg z], q2]
  have sF : ¬ (top < 1 - (fG t : Int) ∧ ¬ (top = -(fG t : Int) ∧ rnU md sg A mo (top - fF t - sc) = 2 ^ (fF t + 1))) → bz (top < 1 - (fG t : Int) ∧ ¬ (top = -(fG t : Int) ∧ rnU md sg A mo (top - fF t - sc) = 2 ^ (fF t + 1))) = Int32.ofInt 0 := bz_f
  have sT : (top < 1 - (fG t : Int) ∧ ¬ (top = -(fG t : Int) ∧ rnU md sg A mo (top - fF t - sc) = 2 ^ (fF t + 1))) → bz (top < 1 - (fG t : Int) ∧ ¬ (top = -(fG t : Int) ∧ rnU md sg A mo (top - fF t - sc) = 2 ^ (fF t + 1))) = Int32.ofInt 1 := bz_t
  obtain ⟨f1, f2⟩ := rt (top - fF t) M ⟨lN 0, True, Or.inr rfl⟩ (by omega)
  obtain ⟨X, ⟨x1, x2⟩, x3⟩ := r83 (top < 1 - (fG t : Int) ∧ ¬ (top = -(fG t : Int) ∧ rnU md sg A mo (top - fF t - sc) = 2 ^ (fF t + 1))) (uS f (lN (rnU md sg A mo (top - fF t - sc))) (bz (cuC A mo (top - fF t - sc) ≠ 0)) M) ⟨_, _, rfl⟩
  refine ⟨X, ⟨?_, ?_⟩, ?_⟩
  · unfold HX99_rounded HX99_rounded_0 HX99_rounded_82 HX99_rounded_78
    dsimp only
    rw [l2]
    dsimp only
    rw [o_cl (by omega), fl_fr o ht, fl_sh o ht, hc, ex6, ex7, ex1, exn, exf, f2]
    refine ⟨i1, i2, l1, f1, fun z => ?_, fun z => ⟨fun z2 => ⟨fun z3 => ?_, fun z3 => ?_⟩, fun z2 => ?_⟩⟩
    · rw [iz_le (by omega)] at z
      rw [sF (fun w => by omega)] at x1
      exact x1
    · rw [iz_eq (by omega)] at z2
      rw [show (uS f (lN (rnU md sg A mo (top - (fF t : Int) - sc))) (bz (cuC A mo (top - (fF t : Int) - sc) ≠ 0)) M).2.1 384 f 0 = lN (rnU md sg A mo (top - (fF t : Int) - sc)) from if_pos ⟨rfl, rfl, rfl⟩, two _ U1] at z3
      rw [sF (fun w => w.2 ⟨z2, z3⟩)] at x1
      exact x1
    · rw [iz_le (by omega)] at z
      rw [show (uS f (lN (rnU md sg A mo (top - (fF t : Int) - sc))) (bz (cuC A mo (top - (fF t : Int) - sc) ≠ 0)) M).2.1 384 f 0 = lN (rnU md sg A mo (top - (fF t : Int) - sc)) from if_pos ⟨rfl, rfl, rfl⟩, two _ U1] at z3
      rw [sT ⟨by omega, fun w => z3 w.2⟩] at x1
      exact x1
    · rw [iz_le (by omega)] at z
      rw [iz_eq (by omega)] at z2
      rw [sT ⟨by omega, fun w => z2 w.1⟩] at x1
      exact x1
  · have hr1 : (rnd t md sg A sc mo).1 = (let u2 : Int := if 1 - (fG t : Int) - fF t ≤ top - fF t then top - fF t else 1 - (fG t : Int) - fF t
  let U2 := rnU md sg A mo (u2 - sc)
  let U3 := if U2 = 2 ^ (fF t + 1) then 2 ^ fF t else U2
  let u3 := if U2 = 2 ^ (fF t + 1) then u2 + 1 else u2
  if (fG t : Int) < u3 + fF t then (if lps md sg = true then pk t sg (2 * fG t + 1) 0 else pk t sg (2 * fG t) (2 ^ fF t - 1))
  else (if U3 < 2 ^ fF t then pk t sg 0 U3 else pk t sg (u3 + fF t + fG t).toNat (U3 - 2 ^ fF t))) := by
      unfold rnd
      rw [htop]
    rw [hr1, ← x2]
    unfold GX99_rounded GX99_rounded_0 GX99_rounded_82 GX99_rounded_78
    dsimp only
    rw [l2]
    dsimp only
    rw [o_cl (by omega), fl_fr o ht, fl_sh o ht, hc, ex6, ex7, ex1, exn, exf, f2]
    rw [show (uS f (lN (rnU md sg A mo (top - (fF t : Int) - sc))) (bz (cuC A mo (top - (fF t : Int) - sc) ≠ 0)) M).2.1 384 f 0 = lN (rnU md sg A mo (top - (fF t : Int) - sc)) from if_pos ⟨rfl, rfl, rfl⟩, propext (two _ U1), propext (iz_le (a := 1 - (fG t : Int)) (b := top) (by omega)), propext (iz_eq (a := top) (b := -(fG t : Int)) (by omega))]
    by_cases z : 1 - (fG t : Int) ≤ top
    · rw [fi_pos z, sF (fun w => by omega)]
    · rw [fi_neg z]
      by_cases z2 : top = -(fG t : Int)
      · rw [fi_pos z2]
        by_cases z3 : rnU md sg A mo (top - fF t - sc) = 2 ^ (fF t + 1)
        · rw [fi_pos z3, sF (fun w => w.2 ⟨z2, z3⟩)]
        · rw [fi_neg z3, sT ⟨by omega, fun w => z3 w.2⟩]
      · rw [fi_neg z2, sT ⟨by omega, fun w => z2 w.1⟩]
  · have hr2 : (rnd t md sg A sc mo).2 = (let u2 : Int := if 1 - (fG t : Int) - fF t ≤ top - fF t then top - fF t else 1 - (fG t : Int) - fF t
  let U2 := rnU md sg A mo (u2 - sc)
  let u3 := if U2 = 2 ^ (fF t + 1) then u2 + 1 else u2
  if (fG t : Int) < u3 + fF t then 5 else fi (cuC A mo (u2 - sc) = 0) 0 (fi (top < 1 - (fG t : Int) ∧ ¬ (top = -(fG t : Int) ∧ rnU md sg A mo (top - fF t - sc) = 2 ^ (fF t + 1))) 3 1)) := by
      unfold rnd
      rw [htop]
      dsimp only
      rw [fi_if, fi_if]
    rw [hr2]
    exact x3
end Rd
