/-! memory is filled with zeros: the twin puts zero by zero; both sides -/
set_option maxRecDepth 100000
/-- from the s-th byte on n zeros are put -/
noncomputable def zpM (c : Nat) (a : Int64) (o s : Nat) : Nat → FM → FM
  | 0, M => M
  | n + 1, M => pbM c (a + lN (s + n)) (o + (s + n)) (Int32.ofInt 0) (zpM c a o s n M)
section Zp
variable {c : Nat} {M : FM} {a : Int64} {o s : Nat}
theorem zpM_R : ∀ n, (zpM c a o s n M).2.2 = M.2.2
  | 0 => rfl
  | n + 1 => (pbM_R _).trans (zpM_R n)
theorem ul_ln (ho : ul a = 2147483648 + o) {k : Nat} (h : o + k ≤ 4194304) : ul (a + lN k) = 2147483648 + (o + k) := by
  rw [ul_add, ho, ul_lN]
  omega
theorem zpM_tri (I : TrI c M) (ho : ul a = 2147483648 + o) : ∀ n, o + (s + n) ≤ 4194304 → TrI c (zpM c a o s n M) ∧ (∀ p, (zpM c a o s n M).1 3 (M.2.2 390 c 0) p = M.1 3 (M.2.2 390 c 0) p)
  | 0, _ => ⟨I, fun _ => rfl⟩
  | n + 1, hb => by
    obtain ⟨i1, i2⟩ := zpM_tri I ho n (by omega)
    obtain ⟨j1, j2⟩ := pbM_tri i1 (ul_ln ho (k := s + n) (by omega)) (by omega) (Int32.ofInt 0)
    rw [zpM_R] at j2
    exact ⟨j1, fun p => (j2 p).trans (i2 p)⟩
theorem zpM_b (hne : M.2.2 388 c 0 ≠ M.2.2 389 c 0) : ∀ n i, tmb (zpM c a o s n M) c i = if 8 * (o + s) ≤ i ∧ i < 8 * (o + s + n) then false else tmb M c i
  | 0, i => by rw [if_neg (by omega)]; rfl
  | n + 1, i => by
    show tmb (pbM c (a + lN (s + n)) (o + (s + n)) (Int32.ofInt 0) (zpM c a o s n M)) c i = _
    rw [pbM_b (by rw [zpM_R]; exact hne), zpM_b hne n i]
    by_cases h : 8 * (o + (s + n)) ≤ i ∧ i < 8 * (o + (s + n)) + 8
    · rw [if_pos h, if_pos (by omega)]
      exact Nat.zero_testBit _
    · rw [if_neg h]
      by_cases h2 : 8 * (o + s) ≤ i ∧ i < 8 * (o + s + n)
      · rw [if_pos h2, if_pos (by omega)]
      · rw [if_neg h2, if_neg (by omega)]
theorem zpM_p (hne : M.2.2 388 c 0 ≠ M.2.2 389 c 0) {p : Nat} (hp : p < 4) : ∀ k, (zpM c a o s k M).2.1 3 (M.2.2 389 c 0) p = fi (∃ j, j < k ∧ hit (a + lN (s + j)) (M.2.1 3 (M.2.2 389 c 0) p)) (Int64.ofInt 0) (M.2.1 3 (M.2.2 389 c 0) p)
  | 0 => by
    rw [fi_neg (fun ⟨j, hj, _⟩ => absurd hj (Nat.not_lt_zero _))]
    rfl
  | k + 1 => by
    have h := pbM_p (c := c) (M := zpM c a o s k M) (a := a + lN (s + k)) (o := o + (s + k)) (by rw [zpM_R]; exact hne) (Int32.ofInt 0) p hp
    rw [zpM_R, zpM_p hne hp k] at h
    show (pbM _ _ _ _ (zpM c a o s k M)).2.1 3 (M.2.2 389 c 0) p = _
    rw [h]
    by_cases q : ∃ j, j < k ∧ hit (a + lN (s + j)) (M.2.1 3 (M.2.2 389 c 0) p)
    · rw [fi_pos q, fi_neg (not_hit0 _), fi_pos (by obtain ⟨j, h1, h2⟩ := q; exact ⟨j, by omega, h2⟩)]
    · rw [fi_neg q]
      refine fi_c ⟨fun z => ⟨k, by omega, z⟩, fun ⟨j, h1, h2⟩ => ?_⟩
      by_cases e : j = k
      · rw [← e]
        exact h2
      · exact absurd ⟨j, by omega, h2⟩ q
theorem thit_g {fr to x : Int64} {s : Nat} (hf : 2147483648 ≤ ul fr) (hs : ul fr + s ≤ 2151677952) (ht : ul to = ul fr + s) (h1 : 1 ≤ s) (hx : inR x 1) : thit fr to x ↔ ∃ j, j < s ∧ (ul fr + j) / 8 = ul x / 8 := by
  unfold inR at hx
  have e1 : ul (x &&& Int64.ofInt (-8)) = ul x / 8 * 8 := and_m8 x
  have e2 : ul ((x &&& Int64.ofInt (-8)) + Int64.ofInt 8) = ul x / 8 * 8 + 8 := by
    rw [ul_add, e1, show ul (Int64.ofInt 8) = 8 from rfl]
    omega
  unfold thit
  rw [cl_ge, cl_le, tl, tl, tl, tl, e1, e2, ht, if_pos (by omega), if_pos (by omega), if_pos (by omega), if_pos (by omega)]
  constructor
  · rintro ⟨q1, q2⟩
    by_cases c : ul fr / 8 = ul x / 8
    · exact ⟨0, by omega, by omega⟩
    · exact ⟨ul x / 8 * 8 - ul fr, by omega, by omega⟩
  · rintro ⟨j, q1, q2⟩
    exact ⟨by omega, by omega⟩
theorem hit_g {b x : Int64} (hb : 2147483648 ≤ ul b) (hb2 : ul b < 2151677952) (hx : inR x 1) : hit b x ↔ ul b / 8 = ul x / 8 := by
  unfold inR at hx
  unfold hit
  rw [lt_tl, tl x, show (Int64.ofInt 0).toInt = 0 from rfl, eq_ul, l_div (by omega) (by decide), l_div (by omega) (by decide), if_pos (by omega), show ul (Int64.ofInt 8) = 8 from rfl]
  constructor
  · rintro ⟨_, q⟩
    exact q.symm
  · intro q
    exact ⟨by omega, q.symm⟩
end Zp
section Fl
variable {r c : Nat} {Mc Mt : FM}
/-- the component fills, the twin puts zero by zero -/
theorem rel_fill (R : RelRam r c Mc Mt) {a : Int64} {o s n : Nat} (ho : ul a = 2147483648 + o) (hn : 1 ≤ n) (hb : o + (s + n) ≤ 4194304) :
    HX11_fill r (a + lN s) (a + lN (s + n)) (Int32.ofInt 0) Mc ∧ ∃ N, GX11_fill r (a + lN s) (a + lN (s + n)) (Int32.ofInt 0) Mc = N ∧ RelRam r c N (zpM c a o s n Mt) ∧ Evo r 4194304 Mc N ∧ Ext Mc N := by
  have u1 := ul_ln ho (k := s) (by omega)
  have u2 := ul_ln ho (k := s + n) (by omega)
  obtain ⟨p1, N, p2, p3, p4⟩ := X11_fill (r := r) (M := Mc) (o := o + s) (e := o + (s + n)) R.1 (by omega) hb u1 u2
  obtain ⟨I1, I2, m, D, e, S⟩ := R
  obtain ⟨z1, z2, z3, z4, z5, z6⟩ := p3
  obtain ⟨r1, r2⟩ := rt_ok z1 (a + lN s) (a + lN (s + n))
  have hne := tr_ne I2.1 I2.2.1 I2.2.2.1
  obtain ⟨t1, t2⟩ := zpM_tri (s := s) I2 ho n hb
  have erv : ∀ q, rsv N r q = rsv Mc r q := fun q => by unfold rsv; rw [z4]
  refine ⟨p1, _, p2, ⟨r1, t1, ?_, fun p q hp hq h => D p q hp hq (by rw [← erv, ← erv]; exact h), fun i hi => ?_, fun p hp => ?_⟩, ?_, ext_tr z2 (fun _ _ => ⟨rfl, rfl⟩)⟩
  · show fi _ _ (N.1 202 r 0) = _
    rw [fi_neg (fun z => absurd z.1 (by decide)), z3]
    exact m
  · rw [r2 i, z6 i hi, zpM_b hne, e i hi, show o + (s + n) = o + s + n by omega]
  · rw [zpM_R, zpM_p hne hp, t2]
    have e1 : rsv (rtM r (a + lN s) (a + lN (s + n)) 4 N) r p = rsv Mc r p := erv p
    rw [e1]
    have e2 : (rtM r (a + lN s) (a + lN (s + n)) 4 N).1 208 (rsv Mc r p) 0 = fi (thit (a + lN s) (a + lN (s + n)) (Mc.2.1 207 (rsv Mc r p) 0)) (Int32.ofInt 0) (Mc.1 208 (rsv Mc r p) 0) := by
      show fi _ _ (N.1 208 _ 0) = _
      rw [z3, z5 207 _ _ (by decide)]
      exact fi_c ⟨fun z => z.2.2.2, fun z => ⟨rfl, rfl, ⟨p, hp, (erv p).symm⟩, z⟩⟩
    have e3 : (rtM r (a + lN s) (a + lN (s + n)) 4 N).2.1 207 (rsv Mc r p) 0 = Mc.2.1 207 (rsv Mc r p) 0 := z5 207 _ _ (by decide)
    rw [e2, e3]
    have hj : ∀ j, j < n → ul (a + lN (s + j)) = ul (a + lN s) + j := fun j hj => by rw [u1, ul_ln ho (by omega)]; omega
    rcases S p hp with ⟨s1, s2⟩ | ⟨s1, s2, s3, s4⟩
    · left
      refine ⟨?_, ?_⟩
      · by_cases z : thit (a + lN s) (a + lN (s + n)) (Mc.2.1 207 (rsv Mc r p) 0)
        · rw [fi_pos z]
        · rw [fi_neg z]
          exact s1
      · rw [s2, fi_neg (fun ⟨j, _, z⟩ => not_hit0 _ z)]
    · have g := thit_g (fr := a + lN s) (to := a + lN (s + n)) (s := n) (x := Mc.2.1 207 (rsv Mc r p) 0) (by omega) (by omega) (by omega) hn s4
      by_cases z : ∃ j, j < n ∧ (ul (a + lN s) + j) / 8 = ul (Mc.2.1 207 (rsv Mc r p) 0) / 8
      · left
        refine ⟨fi_pos (g.mpr z), fi_pos ?_⟩
        obtain ⟨j, hj1, hz⟩ := z
        refine ⟨j, hj1, ?_⟩
        rw [← s3]
        have hh := hj j hj1
        exact (hit_g (by omega) (by omega) s4).mpr (by rw [hh]; exact hz)
      · right
        rw [fi_neg (fun y => z (g.mp y)), fi_neg (fun ⟨j, hj1, y⟩ => z ⟨j, hj1, by
          rw [← s3] at y
          have hh := hj j hj1
          have := (hit_g (by omega) (by omega) s4).mp y
          rw [hh] at this
          exact this⟩)]
        exact ⟨s1, s2, s3, s4⟩
  · have q : Evo r 0 N (rtM r (a + lN s) (a + lN (s + n)) 4 N) := evo_same (fun _ _ => rfl) (fun i _ => r2 i)
    exact evo_t p4 q
end Fl
