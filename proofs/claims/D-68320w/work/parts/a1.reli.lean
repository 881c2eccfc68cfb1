/-! component's integers and the twin's core -/
set_option maxRecDepth 100000
/-- what belongs to the component's unit alone -/
def CoI (a : Nat) (M : FM) : Prop := fm_is M 63 63 a = true ∧ KpI a M ∧ DecT (M.2.2 172 a 0) M ∧ Od M
/-- what is under way: the same on both sides -/
def WyI (a c : Nat) (Mc Mt : FM) (q : Wt) : Prop :=
  fm_is Mc 61 61 (Mc.2.2 174 a 0) = true ∧ Uk (Mc.2.2 174 a 0) q Mc ∧ Mt.1 353 c 0 = q.1 ∧ Mc.1 176 a 0 = Mt.1 354 c 0 ∧
  (Mc.2.1 3 (Mc.2.2 175 a 0) 0 = q.2.1 ∧ Mc.2.1 3 (Mc.2.2 175 a 0) 1 = q.2.2.1 ∧ Mc.2.1 3 (Mc.2.2 175 a 0) 2 = q.2.2.2.1 ∧ Mc.2.1 3 (Mc.2.2 175 a 0) 3 = q.2.2.2.2.1 ∧ Mc.2.1 3 (Mc.2.2 175 a 0) 4 = q.2.2.2.2.2.toInt64) ∧
  (Mt.2.1 3 (Mt.2.2 355 c 0) 0 = q.2.1 ∧ Mt.2.1 3 (Mt.2.2 355 c 0) 1 = q.2.2.1 ∧ Mt.2.1 3 (Mt.2.2 355 c 0) 2 = q.2.2.2.1 ∧ Mt.2.1 3 (Mt.2.2 355 c 0) 3 = q.2.2.2.2.1 ∧ Mt.2.1 3 (Mt.2.2 355 c 0) 4 = q.2.2.2.2.2.toInt64)
def RelI (a c : Nat) (Mc Mt : FM) (o : Option Wt) : Prop :=
  CoI a Mc ∧ fm_is Mt 94 94 c = true ∧ (∀ j, Mc.2.1 3 (rgI a Mc) j = Mt.2.1 3 (Mt.2.2 346 c 0) j) ∧ Mc.2.1 179 (Mc.2.2 171 a 0) 0 = Mt.2.1 347 c 0 ∧
  (o = none → Mc.2.2 174 a 0 = 0 ∧ Mt.1 353 c 0 = Int32.ofInt (-1)) ∧ (∀ q, o = some q → WyI a c Mc Mt q)
section RelI
variable {a c : Nat} {Mc Mt : FM} {o : Option Wt}
/-- the twin's three places are three -/
theorem tc_ne (T : Ty Mt) (W : Wf Mt) (n : fm_is Mt 94 94 c = true) : Mt.2.2 346 c 0 ≠ c ∧ Mt.2.2 355 c 0 ≠ c ∧ Mt.2.2 346 c 0 ≠ Mt.2.2 355 c 0 := by
  have n1 := tN_346 T.1 n
  have n2 := tN_355 T.1 n
  have s1 : Sf Mt (Mt.2.2 346 c 0) 346 := W.2.1.1 (94, 94, 346, 346) (by decide) c n
  have s2 : Sf Mt (Mt.2.2 355 c 0) 355 := W.2.1.1 (94, 94, 355, 355) (by decide) c n
  refine ⟨nis n1 n (by decide), nis n2 n (by decide), fun e => ?_⟩
  have z0 := W.2.2.1
  have t1 := fm_isd n1
  rw [← e] at s2
  rcases s1 with z | z
  · rw [z] at t1
    omega
  · rcases s2 with y | y
    · rw [y] at t1
      omega
    · omega
theorem rel_irun (T : Ty Mc) (W : Wf Mc) (Tt : Ty Mt) (Wt : Wf Mt) (h : RelI a c Mc Mt o) (w : Int32) {len : Int32} (hl : len = Int32.ofInt 2 ∨ len = Int32.ofInt 4) :
    ∃ (res : CR) (X Y : FM), FX47_run fN a w len Mc = some (res.1, X) ∧ Ty X ∧ Ext Mc X ∧ (HX98_run c w len Mt ∧ GX98_run c w len Mt = (res.1, Y)) ∧ RelI a c X Y res.2.2.2.2 ∧
      (res.2.2.2.2 = none → res.1 = Int32.ofInt (-1) ∨ res.1 = Int32.ofInt 0 ∨ res.1 = Int32.ofInt 1) ∧ (∀ q, res.2.2.2.2 = some q → res.1 = q.1) := by
  obtain ⟨⟨n, K, D, O⟩, nt, hR, hP, h0, hw⟩ := h
  obtain ⟨X, e, TX, EX, KX, DX, OX, ⟨v1, v2, v3, v4⟩, vR, vP, vN, vS⟩ := X47_runF T W n K D O w len
  obtain ⟨t1, t2, t3⟩ := tc_ne Tt Wt nt
  obtain ⟨eH, Y, eY, vY⟩ := X98_run Tt nt t1 t2 t3 w hl
  have ec : cx (Mt.2.1 3 (Mt.2.2 346 c 0)) (Mt.2.1 347 c 0) w len = cxI a Mc w len := by
    unfold cxI
    rw [← hP, show Mc.2.1 3 (rgI a Mc) = Mt.2.1 3 (Mt.2.2 346 c 0) from funext hR]
  have k1 : (cxI a Mc w len).2.2.2.2 = none → (cxI a Mc w len).1 = Int32.ofInt (-1) ∨ (cxI a Mc w len).1 = Int32.ofInt 0 ∨ (cxI a Mc w len).1 = Int32.ofInt 1 := cx_none
  have k2 : ∀ q, (cxI a Mc w len).2.2.2.2 = some q → (cxI a Mc w len).1 = q.1 := fun q e => by
    have := cx_some (R := Mc.2.1 3 (rgI a Mc)) (pc := Mc.2.1 179 (Mc.2.2 171 a 0) 0) (w := w) (len := len) (q := q) e
    unfold cxI
    rw [this]
    rfl
  rw [ec] at eY vY
  obtain ⟨y1, y2, y3, yR, yP, yN, yS⟩ := vY
  refine ⟨cxI a Mc w len, X, Y, e, TX, EX, ⟨eH, eY⟩, ?_, k1, k2⟩
  have eRg : rgI a X = rgI a Mc := by
    show X.2.2 178 (X.2.2 171 a 0) 0 = _
    rw [v1, v4]
  have h63 := fm_isd n
  refine ⟨⟨?_, KX, by rw [v2]; exact DX, OX⟩, by unfold fm_is at nt ⊢; rw [y1]; exact nt, fun j => ?_, ?_, fun z => ?_, fun q z => ?_⟩
  · have := (EX a (by omega)).1
    unfold fm_is at n ⊢
    rw [this]
    exact n
  · rw [eRg, vR j, y1, yR j, hR j]
  · rw [v1, vP, yP]
  · exact ⟨vN z, yN z⟩
  · obtain ⟨u1, u2, u3, u4⟩ := vS q z
    obtain ⟨p1, p2, p3⟩ := yS q z
    rw [← v3] at u4
    rw [← y1] at p3
    exact ⟨u1, u2, p1, u3.trans p2.symm, u4, p3⟩
end RelI
