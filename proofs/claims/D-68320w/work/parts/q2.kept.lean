/-! instructions that a processor keeps -/
set_option maxRecDepth 100000
/-- two bytes of memory -/
noncomputable def ld2 (r : Nat) (M : FM) (p : Int64) : Int32 := (GX11_load r p (Int32.ofInt 2) M).1.toInt32
def pgi (p : Int64) : Nat := (ul p - 2147483648) / 4096
/-- what is kept is what memory says -/
def KcV (r : Nat) (M : FM) (p : Int64) (w rw_ ln : Int32) : Prop :=
  (¬ ld2 r M p &&& Int32.ofInt 3 = Int32.ofInt 3 ∧ w = hW (ld2 r M p) ∧ rw_ = ld2 r M p ∧ ln = Int32.ofInt 2) ∨
  (ld2 r M p &&& Int32.ofInt 3 = Int32.ofInt 3 ∧ ul p % 4096 + 4 ≤ 4096 ∧ w = (ld2 r M (p + Int64.ofInt 2) <<< (Int32.ofInt 16 &&& 31)) ||| ld2 r M p ∧ rw_ = w ∧ ln = Int32.ofInt 4)
/-- one place of what is kept; B bounds how often a page was written since -/
def KcE (r B k : Nat) (M : FM) : Prop := ¬ M.1 180 k 0 = 0 → inR (M.2.1 181 k 0) 2 ∧ ul (M.2.1 181 k 0) % 2 = 0 ∧
  ∃ d, d ≤ B ∧ cwr M r (pgi (M.2.1 181 k 0)) = M.2.1 182 k 0 + lN d ∧ (d = 0 → KcV r M (M.2.1 181 k 0) (M.1 183 k 0) (M.1 185 k 0) (M.1 184 k 0))
def KcP (kp r B : Nat) (M : FM) : Prop := fm_is M 918 918 kp = true ∧ M.2.2 1 kp 0 = 512 ∧ (∃ p, fm_is M 75 75 p = true ∧ M.2.2 216 p 0 = kp) ∧ ∀ j, j < 512 → KcE r B (M.2.2 3 kp j) M
def uKp : List Nat := [180, 181, 182, 183, 184, 185, 216, 1216]
section Kc
variable {r B e k kp : Nat} {S : List Nat} {M N : FM} {p : Int64} {w x y : Int32}
theorem ld2_c (R : RamI r M) (R' : RamI r N) (h : inR p 2) (h2 : ul p % 4096 + 2 ≤ 4096) (hb : ∀ i, i / 32768 = pgi p → cmb N r i = cmb M r i) : ld2 r N p = ld2 r M p := by
  obtain ⟨o, ho⟩ : ∃ o, ul p = 2147483648 + o := ⟨ul p - 2147483648, by unfold inR at h; omega⟩
  have hl : o + 2 ≤ 4194304 := by unfold inR at h; omega
  obtain ⟨_, v, a2, a3⟩ := X11_load R.1 R.2.2.1 ho (sz := Int32.ofInt 2) (s := 2) rfl (by decide) (by decide) hl
  obtain ⟨_, v', b2, b3⟩ := X11_load R'.1 R'.2.2.1 ho (sz := Int32.ofInt 2) (s := 2) rfl (by decide) (by decide) hl
  unfold ld2
  rw [a2, b2]
  have : v' = v := lb_ext (fun i hi => by
    rw [a3, b3]
    by_cases c : i < 8 * 2
    · rw [hb (8 * o + i) (by unfold pgi; omega)]
    · rw [decide_eq_false c, Bool.false_and, Bool.false_and])
  rw [this]
theorem pgi_2 {x : Nat} (h : 2147483648 ≤ x) (h2 : x % 4096 + 4 ≤ 4096) : (x + 2 - 2147483648) / 4096 = (x - 2147483648) / 4096 := by omega
theorem kcV_c {ln : Int32} (R : RamI r M) (R' : RamI r N) (h : inR p 2) (h2 : ul p % 2 = 0) (hb : ∀ i, i / 32768 = pgi p → cmb N r i = cmb M r i) (V : KcV r M p w x ln) : KcV r N p w x ln := by
  have e1 := ld2_c R R' h (by omega) hb
  unfold KcV
  rw [e1]
  rcases V with V | ⟨v1, v2, v3, v4, v5⟩
  · exact Or.inl V
  · have ea : ul (p + Int64.ofInt 2) = ul p + 2 := by
      unfold inR at h
      rw [ul_add, show ul (Int64.ofInt 2) = 2 from rfl]
      omega
    have ei : inR (p + Int64.ofInt 2) 2 := by
      unfold inR at h ⊢
      rw [ea]
      omega
    have e2 := ld2_c R R' ei (by rw [ea]; omega) (fun i hi => hb i (by
      unfold pgi at hi ⊢
      rw [ea, pgi_2 h.1 v2] at hi
      exact hi))
    right
    rw [e2]
    exact ⟨v1, v2, v3, v4, v5⟩
theorem kcE_tr (h1 : ∀ f, 180 ≤ f → f ≤ 185 → N.1 f k 0 = M.1 f k 0 ∧ N.2.1 f k 0 = M.2.1 f k 0) (E : Evo r e M N) (R : RamI r M) (R' : RamI r N) (h : KcE r B k M) : KcE r (B + e) k N := by
  intro hn
  rw [(h1 180 (by decide) (by decide)).1] at hn
  obtain ⟨a1, a2, d, d1, d2, d3⟩ := h hn
  rw [(h1 181 (by decide) (by decide)).2, (h1 182 (by decide) (by decide)).2, (h1 183 (by decide) (by decide)).1, (h1 184 (by decide) (by decide)).1, (h1 185 (by decide) (by decide)).1]
  have hp : pgi (M.2.1 181 k 0) < 1024 := by
    unfold inR at a1
    unfold pgi
    omega
  obtain ⟨d', q1, q2, q3⟩ := E _ hp
  refine ⟨a1, a2, d + d', by omega, ?_, fun hz => ?_⟩
  · rw [q2, d2, Int64.add_assoc, lN_a]
  · exact kcV_c R R' a1 a2 (q3 (by omega)) (d3 (by omega))
theorem kcE_w {B' : Nat} (hB : B ≤ B') (h : KcE r B k M) : KcE r B' k M := fun hn => by
  obtain ⟨a1, a2, d, d1, d2, d3⟩ := h hn
  exact ⟨a1, a2, d, by omega, d2, d3⟩
theorem kcP_is (T : Ty M) (h : KcP kp r B M) {j : Nat} (hj : j < 512) : fm_is M 65 65 (M.2.2 3 kp j) = true := by
  have := tE_918 (i := nI j) T.1 h.1 (in_nI h.2.1 hj (by decide))
  rw [o_cl (by omega)] at this
  exact this
theorem kcP_k (k' : WK S M N) (hd : dj uKp S = true) (E : Evo r e M N) (R : RamI r M) (R' : RamI r N) (h : KcP kp r B M) : KcP kp r (B + e) N := by
  have T := R.1
  have W := R.2.1
  have hj := fun j hj => kcP_is T h (j := j) hj
  obtain ⟨n, l, ⟨p, np_, hp⟩, hk⟩ := h
  have lk := wf_lt W (fm_ist rfl n)
  have lp := wf_lt W (fm_ist rfl np_)
  have sf : Sf M kp 216 := by rw [← hp]; exact sS_216 W np_
  have r216 := (ka k' sf (wf_n0 W (fm_ist rfl n)) (dj_n hd 1216 rfl) lk).2.2
  refine ⟨kis k' W rfl n, (congrFun (kt k' lk).2 0).trans l, ⟨p, kis k' W rfl np_, (congrFun (kf (f := 216) k' rfl (dj_n hd 216 rfl) lp).2.2 0).trans hp⟩, fun j hj' => ?_⟩
  rw [r216]
  have ln := wf_lt W (fm_ist rfl (hj j hj'))
  refine kcE_tr (fun f h1 h2 => ?_) E R R' (hk j hj')
  have hm : fe_mem uKp f = true := fe_mem_of (by unfold uKp; simp only [List.mem_cons]; omega)
  have := kf (f := f) k' (Nat.ble_eq.mpr (by omega)) (dj_n hd f hm) ln
  exact ⟨congrFun this.1 0, congrFun this.2.1 0⟩
end Kc
