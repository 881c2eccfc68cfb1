/-! start: one processor's units are reset: integers, floats -/
set_option maxRecDepth 100000
theorem ev_and {e : Int64} (h : ev e) : e &&& Int64.ofInt (-2) = e := by
  have z : e &&& Int64.ofInt 1 = Int64.ofInt 0 := ul_inj (by
    rw [ul_and, show ul (Int64.ofInt 1) = 2 ^ 1 - 1 from rfl, Nat.and_two_pow_sub_one_eq_mod]
    exact h)
  rw [and_m2, z]
  refine ul_inj ?_
  have := ul_lt e
  rw [ul_sub, show ul (Int64.ofInt 0) = 0 from rfl]
  omega
theorem wk_rz {M : FM} {H s : Nat} (W : Wf M) (n : fm_is M 902 902 H = true) (sf : Sf M H s) : ∀ j, WK [1000 + s] M (rz H M j)
  | 0 => by
    rw [rz_0]
    exact WK_r W
  | j + 1 => by
    have k := wk_rz W n sf j
    rw [← rz_s]
    exact WK_t k (WK_aL k.1.1 n sf _)
section Un
variable {a c fu rg f1 : Nat} {cf : Nat → Nat} {o : Option Wt} {fs : Fs} {Mc Mt : FM} {e : Int64}
/-- the integers -/
noncomputable def rcI (a : Nat) (e : Int64) (M : FM) : FM := GX47_jump a e (rz (rgI a M) M 32)
theorem st_int (T : Ty Mc) (R : RelI a c Mc Mt o) (he : ev e) : RelI a c (rcI a e Mc) (rsCo (Mt.2.2 346 c 0) c e Mt) none ∧ EvT c (rsCo (Mt.2.2 346 c 0) c e Mt) := by
  obtain ⟨C, nt, hR, hP, -, -⟩ := R
  obtain ⟨t1, t2, t3, t4⟩ := relI_tags T C.1
  have e22 : ∀ f b j, ¬ (f = 174 ∧ b = a) → (rcI a e Mc).2.2 f b j = Mc.2.2 f b j := fun f b j z => by
    unfold rcI GX47_jump GX47_jump_0
    try dsimp only
    rw [rR, if_neg (fun q => z ⟨q.1, q.2.1⟩)]
    rfl
  have e21 : ∀ f b j, (rcI a e Mc).2.1 f b j = if f = 179 ∧ b = Mc.2.2 171 a 0 ∧ j = 0 then e &&& Int64.ofInt (-2) else if f = 3 ∧ b = rgI a Mc ∧ j < 32 then Int64.ofInt 0 else Mc.2.1 f b j := fun f b j => rfl
  have eg : rgI a (rcI a e Mc) = rgI a Mc := by
    show (rcI a e Mc).2.2 178 ((rcI a e Mc).2.2 171 a 0) 0 = _
    rw [e22 171 a 0 (by omega), e22 178 _ 0 (by omega)]
    rfl
  have q1 : ∀ f b j, (rsCo (Mt.2.2 346 c 0) c e Mt).2.1 f b j = if f = 347 ∧ b = c ∧ j = 0 then e else if f = 3 ∧ b = Mt.2.2 346 c 0 ∧ j < 32 then Int64.ofInt 0 else Mt.2.1 f b j := fun f b j => rfl
  refine ⟨relI_n (coI_ro T C ⟨fun _ _ _ _ => rfl, e22, fun f b j z => ?_⟩) nt (fun j => ?_) ?_ ?_ ?_, ?_, ?_⟩
  · rw [e21, if_neg (fun q => by rw [q.2.1, t2] at z; cases z), if_neg (fun q => by rw [q.2.1, t3] at z; cases z)]
  · rw [eg]
    show _ = (rsCo (Mt.2.2 346 c 0) c e Mt).2.1 3 (Mt.2.2 346 c 0) j
    have l1 := e21 3 (rgI a Mc) j
    have l2 := q1 3 (Mt.2.2 346 c 0) j
    rw [if_neg (by omega)] at l1 l2
    rw [l1, l2]
    by_cases z : j < 32
    · rw [if_pos ⟨rfl, rfl, z⟩, if_pos ⟨rfl, rfl, z⟩]
    · rw [if_neg (fun y => z y.2.2), if_neg (fun y => z y.2.2)]
      exact hR j
  · rw [e22 171 a 0 (by omega), e21, if_pos ⟨rfl, rfl, rfl⟩, q1, if_pos ⟨rfl, rfl, rfl⟩]
    exact ev_and he
  · unfold rcI GX47_jump GX47_jump_0
    show (fm_sR _ 174 a 0 0).2.2 174 a 0 = 0
    rw [rR, if_pos ⟨rfl, rfl, rfl⟩]
  · unfold rsCo
    rw [rI, if_pos ⟨rfl, rfl, rfl⟩]
  · show (rsCo (Mt.2.2 346 c 0) c e Mt).2.1 3 (Mt.2.2 346 c 0) 0 = _
    rw [q1, if_neg (by omega), if_pos ⟨rfl, rfl, by decide⟩]
  · rw [q1, if_pos ⟨rfl, rfl, rfl⟩]
    exact he
/-- a register is set, both sides -/
noncomputable def stC (a k : Nat) (v : Int64) (M : FM) : FM := fm_sL M 3 (rgI a M) k v
theorem st_reg {k : Nat} (T : Ty Mc) (R : RelI a c Mc Mt none) (hk : 0 < k) (v : Int64) (E : EvT c Mt) : RelI a c (stC a k v Mc) (stR (Mt.2.2 346 c 0) c k v Mt) none ∧ EvT c (stR (Mt.2.2 346 c 0) c k v Mt) := by
  obtain ⟨C, nt, hR, hP, h0, -⟩ := R
  obtain ⟨p1, p2⟩ := h0 rfl
  obtain ⟨t1, t2, t3, t4⟩ := relI_tags T C.1
  refine ⟨relI_n (coI_ro T C ⟨fun _ _ _ _ => rfl, fun _ _ _ _ => rfl, fun f b j z => ?_⟩) nt (fun j => ?_) ?_ p1 ?_, ?_, ?_⟩
  · unfold stC
    rw [rL, if_neg (fun q => by rw [q.2.1, t3] at z; cases z)]
  · show (fm_sL Mc 3 (rgI a Mc) k v).2.1 3 (rgI a Mc) j = (fm_sL (fm_sI Mt 345 c 0 (Int32.ofInt 0)) 3 (Mt.2.2 346 c 0) k v).2.1 3 (Mt.2.2 346 c 0) j
    rw [rL, rL]
    by_cases z : j = k
    · rw [if_pos ⟨rfl, rfl, z⟩, if_pos ⟨rfl, rfl, z⟩]
    · rw [if_neg (fun y => z y.2.2), if_neg (fun y => z y.2.2)]
      exact hR j
  · show (fm_sL Mc 3 (rgI a Mc) k v).2.1 179 (Mc.2.2 171 a 0) 0 = (fm_sL (fm_sI Mt 345 c 0 (Int32.ofInt 0)) 3 (Mt.2.2 346 c 0) k v).2.1 347 c 0
    rw [rLf (by decide), rLf (by decide)]
    exact hP
  · exact (show (fm_sI Mt 345 c 0 (Int32.ofInt 0)).1 353 c 0 = Mt.1 353 c 0 from rIf2 _ (by decide)).trans p2
  · show (fm_sL (fm_sI Mt 345 c 0 (Int32.ofInt 0)) 3 (Mt.2.2 346 c 0) k v).2.1 3 (Mt.2.2 346 c 0) 0 = _
    rw [rL, if_neg (by omega)]
    exact E.1
  · show ev ((fm_sL (fm_sI Mt 345 c 0 (Int32.ofInt 0)) 3 (Mt.2.2 346 c 0) k v).2.1 347 c 0)
    rw [rLf (by decide)]
    exact E.2
/-- the floats -/
noncomputable def rcF (fu rg : Nat) (M : FM) : FM := GX59_calm fu (GX59_putMode fu (Int32.ofInt 0) (GX59_putFlags fu (Int32.ofInt 0) (rz rg M 32)))
def fsZ (v : Int64) : Fs := (fun _ => Int64.ofInt 0, Int32.ofInt 0, 0, Int32.ofInt 0, v)
theorem st_flo (R : RelF fu cf rg f1 Mc Mt fs) : RelF fu cf rg f1 (rcF fu rg Mc) (rsFl (Mt.2.2 367 f1 0) f1 Mt) (fsZ fs.2.2.2.2) ∧ FrU fu cf rg Mc (rcF fu rg Mc) ∧ FrTF f1 Mt (rsFl (Mt.2.2 367 f1 0) f1 Mt) := by
  obtain ⟨r1, r2, ⟨v1, v2, v3, v4, v5⟩, ⟨y, w1, w2, w3, w4, w5⟩, r5⟩ := R
  have T0 := r1.1.1
  have f0 : FrU fu cf rg Mc (rz rg Mc 32) := ⟨rz_ty T0, fun _ _ _ _ => rfl, fun _ _ _ _ _ _ => rfl, fun g b i _ _ q _ => if_neg (fun z => q ⟨z.1, z.2.1⟩)⟩
  have V0 : VFc fu cf rg (rz rg Mc 32) (fun _ => Int64.ofInt 0, fs.2.1, fs.2.2.1, fs.2.2.2.1, fs.2.2.2.2) := ⟨fun i hi => if_pos ⟨rfl, rfl, hi⟩, v2, v3, v4, (show (rz rg Mc 32).2.1 97 fu 0 = Mc.2.1 97 fu 0 from if_neg (t := Int64.ofInt 0) (show ¬ (97 = 3 ∧ fu = rg ∧ 0 < 32) from fun z => absurd z.1 (by decide))).trans v5⟩
  obtain ⟨f1_, V1⟩ := X59_putFlags (flU_f r1 f0) V0 (Int32.ofInt 0)
  have o1 := flU_f (flU_f r1 f0) f1_
  obtain ⟨f2_, V2⟩ := X59_putMode o1 V1 (Int32.ofInt 0)
  have o2 := flU_f o1 f2_
  obtain ⟨f3_, V3⟩ := X59_calm o2 V2
  have es : sCalm (sMode (Int32.ofInt 0) (sFlags (Int32.ofInt 0) ((fun _ => Int64.ofInt 0, fs.2.1, fs.2.2.1, fs.2.2.2.1, fs.2.2.2.2) : Fs))) = fsZ fs.2.2.2.2 := by
    unfold sCalm sMode sFlags fsZ
    try dsimp only
    rw [show (Int32.ofInt 0 &&& Int32.ofInt 31 : Int32) = Int32.ofInt 0 by decide, show ui (Int32.ofInt 0) % 8 = 0 from rfl]
  rw [es] at V3
  have FU := frU_t (frU_t (frU_t f0 f1_) f2_) f3_
  have FT : FrTF f1 Mt (rsFl (Mt.2.2 367 f1 0) f1 Mt) := ⟨rsFl_ty r2.1, rfl, fun g b i p r => by
    unfold rsFl
    rw [rI, if_neg (fun z => p (Or.inl ⟨z.2.1, by omega⟩))]
    show (fm_sI (fm_sI (rz (Mt.2.2 367 f1 0) Mt 32) 368 f1 0 (Int32.ofInt 0)) 369 f1 0 (Int32.ofInt 0)).1 g b i = _
    rw [rI, if_neg (fun z => r ⟨z.2.1, Or.inr z.1⟩), rI, if_neg (fun z => p (Or.inl ⟨z.2.1, by omega⟩))]
    rfl, fun g b i p r q => by
    unfold rsFl
    show (fm_sL (fm_sI (fm_sI (rz (Mt.2.2 367 f1 0) Mt 32) 368 f1 0 (Int32.ofInt 0)) 369 f1 0 (Int32.ofInt 0)) 370 f1 0 (Int64.ofInt 0)).2.1 g b i = _
    rw [rL, if_neg (fun z => r ⟨z.2.1, z.1⟩)]
    exact if_neg (fun z => q ⟨z.1, z.2.1⟩)⟩
  have VT : VFw f1 (rsFl (Mt.2.2 367 f1 0) f1 Mt) (fsZ fs.2.2.2.2) := ⟨Int64.ofInt 0, fun i hi => by
    show (fm_sL (fm_sI (fm_sI (rz (Mt.2.2 367 f1 0) Mt 32) 368 f1 0 (Int32.ofInt 0)) 369 f1 0 (Int32.ofInt 0)) 370 f1 0 (Int64.ofInt 0)).2.1 3 (Mt.2.2 367 f1 0) i = Int64.ofInt 0
    rw [rLf (by decide)]
    exact if_pos ⟨rfl, rfl, hi⟩, by
    show (rsFl (Mt.2.2 367 f1 0) f1 Mt).1 368 f1 0 = Int32.ofInt 0
    unfold rsFl
    rw [rIf (by decide)]
    show (fm_sI (fm_sI (rz (Mt.2.2 367 f1 0) Mt 32) 368 f1 0 (Int32.ofInt 0)) 369 f1 0 (Int32.ofInt 0)).1 368 f1 0 = _
    rw [rIf (by decide), rIe], by
    show (rsFl (Mt.2.2 367 f1 0) f1 Mt).1 369 f1 0 = Int32.ofInt 0
    unfold rsFl
    rw [rIf (by decide)]
    show (fm_sI (fm_sI (rz (Mt.2.2 367 f1 0) Mt 32) 368 f1 0 (Int32.ofInt 0)) 369 f1 0 (Int32.ofInt 0)).1 369 f1 0 = _
    rw [rIe], by
    show (rsFl (Mt.2.2 367 f1 0) f1 Mt).1 371 f1 0 = Int32.ofInt 0
    unfold rsFl
    rw [rIe], by
    show (fm_sL (fm_sI (fm_sI (rz (Mt.2.2 367 f1 0) Mt 32) 368 f1 0 (Int32.ofInt 0)) 369 f1 0 (Int32.ofInt 0)) 370 f1 0 (Int64.ofInt 0)).2.1 370 f1 0 = Int64.ofInt 0
    rw [rLe]⟩
  exact ⟨⟨flU_f r1 FU, flO_T r2 FT, V3, VT, show ui (Int32.ofInt 0) < 32 by decide, show 0 < 8 by decide⟩, FU, FT⟩
end Un
