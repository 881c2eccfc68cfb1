/-! the law: an exception is made; what the law holds by itself -/
set_option maxRecDepth 100000
section Ex
variable {M N : FM} {s : Nat} {S : List Nat}
theorem exc_3 (f a i : Nat) (hf : f ≠ 2) : (fm_exc M).2.2 f a i = M.2.2 f a i := by
  show (if f = 2 ∧ a = 0 ∧ i = 0 then fm_nx M + 1 else if f = 2 ∧ a = 0 ∧ i = 1 then fm_ns M + 6 else M.2.2 f a i) = _
  rw [if_neg (fun q => hf q.1), if_neg (fun q => hf q.1)]
theorem exc_nx : fm_nx (fm_exc M) = fm_nx M + 1 := rfl
theorem exc_ns : fm_ns (fm_exc M) = fm_ns M + 6 := by
  show (if 2 = 2 ∧ 0 = 0 ∧ 1 = 0 then fm_nx M + 1 else if 2 = 2 ∧ 0 = 0 ∧ 1 = 1 then fm_ns M + 6 else M.2.2 2 0 1) = _
  rw [if_neg (by decide), if_pos (by decide)]
theorem exc_is {lo hi a : Nat} : fm_is (fm_exc M) lo hi a = fm_is M lo hi a := by
  unfold fm_is
  rw [exc_3 0 a 0 (by decide)]
theorem exc_ty (T : Ty M) : Ty (fm_exc M) := by
  have e : ∀ f a i, f ≠ 2 → (fm_exc M).2.2 f a i = M.2.2 f a i := fun f a i => exc_3 f a i
  have ei : ∀ lo hi a, fr (fm_exc M).2.2 lo hi a = fr M.2.2 lo hi a := fun lo hi a => exc_is
  obtain ⟨⟨h1, h2, h3, h4, h5, h6, h7, h8⟩, h9, h10⟩ := T
  have f2 : ∀ q ∈ ty_N, q.2.2.1 ≠ 2 := by decide
  have f3 : ∀ q ∈ ty_Z, q.2.2.1 ≠ 2 := by decide
  have f4 : ∀ q ∈ ty_L, q.2.2.1 ≠ 2 := by decide
  refine ⟨⟨fun q hq a ha => ?_, fun q hq a ha hn => ?_, fun q hq a ha => ?_, fun q hq a i ha hi => ?_, fun q hq a i ha hi hn => ?_, fun q hq => ?_, fun a ha => ?_, fun a ha => ?_⟩, h9, fun a i ha => h10 a i (by rw [exc_is] at ha; exact ha)⟩
  · rw [ei] at ha
    rw [ei, e _ _ _ (f2 q hq)]
    exact h1 q hq a ha
  · rw [ei] at ha
    rw [e _ _ _ (f3 q hq)] at hn
    rw [ei, e _ _ _ (f3 q hq)]
    exact h2 q hq a ha hn
  · rw [ei] at ha
    rw [e _ _ _ (by decide), e _ _ _ (f4 q hq)]
    exact h3 q hq a ha
  · rw [ei] at ha
    rw [e _ _ _ (by decide)] at hi
    rw [ei, e _ _ _ (by decide)]
    exact h4 q hq a i ha hi
  · rw [ei] at ha
    rw [e _ _ _ (by decide)] at hi hn
    rw [ei, e _ _ _ (by decide)]
    exact h5 q hq a i ha hi hn
  · rw [e _ _ _ (by decide)]
    exact h6 q hq
  · rw [ei] at ha
    exact h7 a ha
  · rw [ei] at ha
    exact h8 a ha
theorem exc_wf (W : Wf M) : Wf (fm_exc M) := by
  obtain ⟨w1, ⟨w2, w3, w4⟩, w5, w6⟩ := W
  refine ⟨fun a ha f i => ?_, ⟨fun q hq a ha => ?_, fun f a i hf hn => ?_, fun a => ?_⟩, ?_, ?_⟩
  · have ha : fm_nx M + 1 ≤ a := ha
    obtain ⟨p1, p2, p3⟩ := w1 a (by omega) f i
    refine ⟨p1, p2, ?_⟩
    show (if f = 2 ∧ a = 0 ∧ i = 0 then fm_nx M + 1 else if f = 2 ∧ a = 0 ∧ i = 1 then fm_ns M + 6 else M.2.2 f a i) = 0
    rw [if_neg (by omega), if_neg (by omega)]
    exact p3
  · rw [exc_is] at ha
    have f4 : q.2.2.1 ≠ 2 := (show ∀ q ∈ ty_S, q.2.2.1 ≠ 2 by decide) q hq
    have := w2 q hq a ha
    unfold Sf at *
    rw [exc_3 _ _ _ f4, exc_3 _ _ _ (by decide), exc_3 _ _ _ (by decide)]
    exact this
  · rw [exc_3 _ _ _ (by omega)] at hn
    exact rp_k (M := M) (exc_3 _ _ _ (by decide)) (exc_3 _ _ _ (by decide)) (w3 f a i hf hn)
  · rw [exc_3 _ _ _ (by decide)]
    exact w4 a
  · rw [exc_3 _ _ _ (by decide)]
    exact w5
  · rw [exc_nx]; omega
theorem exc_k (W : Wf M) : WK S M (fm_exc M) := by
  have nx := W.2.2.2
  refine ⟨⟨exc_wf W, fun _ _ _ _ _ _ => trivial, by rw [exc_nx]; omega, fun _ _ => trivial, fun _ _ => trivial⟩, by rw [exc_nx]; omega, ⟨fun a ha => ⟨funext fun i => exc_3 0 a i (by decide), funext fun i => exc_3 1 a i (by decide)⟩, fun a ha q => ?_⟩, fun f a ha hf _ => ⟨rfl, rfl, funext fun i => exc_3 f a i (by omega)⟩⟩
  rw [exc_3 0 a 1 (by decide), (W.1 a ha 0 1).2.2] at q
  cases q
theorem exc_own {ow : Nat → Nat} (O : Own ow M) : Own ow (fm_exc M) := by
  obtain ⟨o1, o2, o3, o4⟩ := O
  refine ⟨fun a => ?_, o2, fun f a i hf ha => ?_, fun a i h1 h2 => ?_⟩
  · have : Pv (fm_exc M) a = Pv M a := by
      unfold Pv
      rw [exc_3 _ _ _ (by decide), exc_3 _ _ _ (by decide)]
    rw [this]
    exact o1 a
  · rw [exc_3 _ _ _ (by omega)]
    exact o3 f a i hf ha
  · rw [exc_3 _ _ _ (by decide)] at h1 ⊢
    exact o4 a i h1 h2
end Ex
/-- the law's own things: the script, the array for answers -/
def LawI (o s0 ln : Nat) (sc : Nat → Int32) (M : FM) : Prop := (fm_is M 902 902 o = true ∧ Sf M o 9 ∧ M.2.2 1 o 0 = 1) ∧ (fm_is M 906 906 s0 = true ∧ Sf M s0 0 ∧ M.2.2 1 s0 0 = ln ∧ ∀ i, i < ln → M.1 3 s0 i = sc i)
section Li
variable {bd hv m hq s dd x dk q rq r sg bl cr np mc : Nat} {B Bk Vv ld x1 o s0 ln c : Nat} {sc : Nat → Int32} {M N : FM} {S : List Nat}
theorem lawI_k (k : WK S M N) (hd : dj [1000] S = true) (W : Wf M) (L : LawI o s0 ln sc M) : LawI o s0 ln sc N := by
  obtain ⟨⟨a1, a2, a3⟩, b1, b2, b3, b4⟩ := L
  have lo := wf_lt W (fm_ist rfl a1)
  have ls := wf_lt W (fm_ist rfl b1)
  refine ⟨⟨kis k W rfl a1, ?_, ?_⟩, kis k W rfl b1, ?_, ?_, fun i hi => ?_⟩
  · unfold Sf at *
    rw [(kt k lo).1]
    exact a2
  · rw [(kt k lo).2]; exact a3
  · unfold Sf at *
    rw [(kt k ls).1]
    exact b2
  · rw [(kt k ls).2]; exact b3
  · rw [(ka k b2 (wf_n0 W (fm_ist rfl b1)) (dj_n hd 1000 rfl) ls).1]
    exact b4 i hi
/-- an exception is made -/
theorem Z_exc (Z : RelZ bd hv m hq s dd x dk q rq r sg bl cr np mc ld x1 B Bk Vv M) : RelZ bd hv m hq s dd x dk q rq r sg bl cr np mc ld x1 B Bk Vv (fm_exc M) := by
  obtain ⟨R, T, W⟩ := Z_r Z
  obtain ⟨_, _, _, _, _, ⟨ow, Ow⟩, _, _⟩ := id R
  exact Z_k (S := []) Z (exc_k W) (by decide) (by decide) (by decide) (by decide) (by decide) (exc_ty T) ⟨_, exc_own Ow⟩
/-- all that the law keeps, with a count of the calls -/
def ZI (bd hv m hq s dd x dk q rq r sg bl cr np mc ld x1 o s0 ln : Nat) (sc : Nat → Int32) (c : Nat) (M : FM) : Prop :=
  (∃ B Bk Vv, (B ≤ 40000 * c ∧ Bk ≤ 102400800000 * c ∧ Vv ≤ 40000 * c) ∧ RelZ bd hv m hq s dd x dk q rq r sg bl cr np mc ld x1 B Bk Vv M) ∧ LawI o s0 ln sc M
/-- where the component's things stand -/
def CmpI (x1 mc bd tp r dd dk np : Nat) (M : FM) : Prop := (fm_is M 10 10 x1 = true ∧ M.2.2 17 x1 0 = mc) ∧ (fm_is M 67 67 mc = true ∧ M.2.2 189 mc 0 = bd ∧ M.2.2 191 mc 0 = tp ∧ fm_is M 922 922 (M.2.2 190 mc 0) = true ∧ M.2.2 1 (M.2.2 190 mc 0) 0 = np ∧ Int32.ofNat (M.2.2 1 (M.2.2 190 mc 0) 0) = nI np) ∧
  (fm_is M 11 11 bd = true ∧ M.2.2 18 bd 0 = r ∧ M.2.2 20 bd 0 = dd) ∧ fm_is M 73 73 r = true ∧ fm_is M 86 86 tp = true ∧ (fm_is M 22 22 dd = true ∧ M.2.2 59 dd 0 = dk) ∧ fm_is M 23 23 dk = true
theorem cmp_Z (Z : RelZ bd hv m hq s dd x dk q rq r sg bl cr np mc ld x1 B Bk Vv M) : CmpI x1 mc bd (M.2.2 191 mc 0) r dd dk np M ∧ np ≤ 4 ∧ 1 ≤ np ∧ Ty M ∧ Wf M ∧ fm_is M 92 92 m = true := by
  obtain ⟨R, T, W⟩ := Z_r Z
  have RB := relM_b R
  have n67 := R.1
  have xm := Z.2.2.2.1
  have n190 := tN_190 T.1 n67
  have DK := RB.2.1.2
  refine ⟨⟨xm, ⟨n67, R.2.1, rfl, n190, R.2.2.1, ?_⟩, ⟨RB.1.1.1.1, RB.1.1.2.2.1, RB.1.1.2.2.2.2⟩, (relM_ram R).1.2.2.1, tN_191 T.1 n67, ?_⟩, (relM_m R).2, R.2.2.2.1, T, W, (relM_m R).1⟩
  · rw [R.2.2.1]; rfl
  · have n22 := tN_20 T.1 RB.1.1.1.1
    rw [RB.1.1.2.2.2.2] at n22
    have hdk := DK.2.1.1.2.2.1
    exact ⟨⟨n22, hdk⟩, by rw [← hdk]; exact tN_59 T.1 n22⟩
end Li
