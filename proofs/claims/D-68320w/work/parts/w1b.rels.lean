/-! start: what the describing needs, and that others leave it -/
set_option maxRecDepth 100000
def lS : List Nat := [13, 14, 15, 16, 1015, 55, 56, 57, 191, 193, 248, 254, 256, 257, 258, 259, 261, 263, 264, 265, 1264, 1265]
def lSr : List Nat := [55, 56, 57, 191, 193, 248, 256, 257, 258, 259, 261, 263, 264, 265, 1264, 1265]
def lSt : List Nat := [302, 415, 416, 1415]
/-- the twin's tree, as bytes -/
def TreT (m N : Nat) (v : Nat → Int32) (M : FM) : Prop := M.1 416 (M.2.2 302 m 0) 0 = nI N ∧ N ≤ 8192 ∧ N ≤ M.2.2 1 (M.2.2 415 (M.2.2 302 m 0) 0) 0 ∧ M.2.2 1 (M.2.2 415 (M.2.2 302 m 0) 0) 0 < 2147483648 ∧ ∀ k, k < N → M.1 3 (M.2.2 415 (M.2.2 302 m 0) 0) k = v k
section Sd
variable {d mc m np : Nat} {M N Mc Mt Nc Nt : FM} {S S' : List Nat}
theorem std_k (k : WK S M N) (hd : dj lSr S = true) (T : Ty M) (W : Wf M) (D : StD d M.2.2) : StD d N.2.2 ∧ (N.2.2 55 d 0 = M.2.2 55 d 0 ∧ N.2.2 56 d 0 = M.2.2 56 d 0 ∧ N.2.2 57 d 0 = M.2.2 57 d 0) ∧ ndc (N.2.2 56 d 0) N.2.2 0 = ndc (M.2.2 56 d 0) M.2.2 0 ∧ N.2.2 248 (ndc (M.2.2 56 d 0) M.2.2 0) 0 = M.2.2 248 (ndc (M.2.2 56 d 0) M.2.2 0) 0 ∧
    M.2.2 0 (M.2.2 248 (ndc (M.2.2 56 d 0) M.2.2 0) 0) 0 ≠ 0 ∧
    N.2.2 263 (M.2.2 56 d 0) 0 = M.2.2 263 (M.2.2 56 d 0) 0 ∧ N.2.2 256 (M.2.2 57 d 0) 0 = M.2.2 256 (M.2.2 57 d 0) 0 ∧ N.2.2 257 (M.2.2 57 d 0) 0 = M.2.2 257 (M.2.2 57 d 0) 0 ∧ ∀ b, fm_is M 86 86 b = true → N.2.2 261 b 0 = M.2.2 261 b 0 := by
  obtain ⟨nd, ⟨nt, l1, l2, i1, i2⟩, ⟨⟨r1, r1'⟩, ⟨r2, r2'⟩, ⟨r3, r3'⟩, r4, r4'⟩, m1, m2, m3, m4⟩ := D
  have nd : fm_is M 21 21 d = true := nd
  have E := fun (f a : Nat) (hf : Nat.ble 4 f = true) (hl : fe_mem lSr f = true) (h : M.2.2 0 a 0 ≠ 0) => congrFun (kf (f := f) k hf (dj_n hd f hl) (wf_lt W h)).2.2 0
  have L := fun (a : Nat) (h : M.2.2 0 a 0 ≠ 0) => (ktt k W h).2
  have n55 := tN_55 T.1 nd
  have n56 := tN_56 T.1 nd
  have n57 := tN_57 T.1 nd
  have n263 := tN_263 T.1 n56
  have n264 := tN_264 T.1 n56
  have n265 := tN_265 T.1 n56
  have n256 := tN_256 T.1 n57
  have n257 := tN_257 T.1 n57
  have b1 := tN_261 T.1 n55
  have b2 := tN_261 T.1 n263
  have b3 := tN_261 T.1 n256
  have b4 := tN_261 T.1 n257
  have e55 := E 55 d rfl rfl (fm_ist rfl nd)
  have e56 := E 56 d rfl rfl (fm_ist rfl nd)
  have e57 := E 57 d rfl rfl (fm_ist rfl nd)
  have e263 := E 263 _ rfl rfl (fm_ist rfl n56)
  have e264 := E 264 _ rfl rfl (fm_ist rfl n56)
  have e265 := E 265 _ rfl rfl (fm_ist rfl n56)
  have e256 := E 256 _ rfl rfl (fm_ist rfl n57)
  have e257 := E 257 _ rfl rfl (fm_ist rfl n57)
  have c1 := E 261 _ rfl rfl (fm_ist rfl n55)
  have c2 := E 261 _ rfl rfl (fm_ist rfl n263)
  have c3 := E 261 _ rfl rfl (fm_ist rfl n256)
  have c4 := E 261 _ rfl rfl (fm_ist rfl n257)
  have q264 := (ka k (sS_264 W n56) (wf_n0 W (fm_ist rfl n264)) (dj_n hd 1264 rfl) (wf_lt W (fm_ist rfl n264))).2.2
  have q265 := (ka k (sS_265 W n56) (wf_n0 W (fm_ist rfl n265)) (dj_n hd 1265 rfl) (wf_lt W (fm_ist rfl n265))).2.2
  have hnd : ∀ j, ndc (N.2.2 56 d 0) N.2.2 j = ndc (M.2.2 56 d 0) M.2.2 j := fun j => by
    unfold ndc
    rw [e56, e264, q264]
  have hpp : ∀ j, ppc (N.2.2 56 d 0) N.2.2 j = ppc (M.2.2 56 d 0) M.2.2 j := fun j => by
    unfold ppc
    rw [e56, e265, q265]
  have n82 : ∀ j, j < 128 → fm_is M 82 82 (ndc (M.2.2 56 d 0) M.2.2 j) = true := fun j hj => by
    have := tE_924 (i := nI j) T.1 n264 (in_nI l1 hj (by decide))
    rw [o_cl (by omega)] at this
    exact this
  have n85 : ∀ j, j < 512 → fm_is M 85 85 (ppc (M.2.2 56 d 0) M.2.2 j) = true := fun j hj => by
    have := tE_925 (i := nI j) T.1 n265 (in_nI l2 hj (by decide))
    rw [o_cl (by omega)] at this
    exact this
  have hpc : ∀ j, j < 1152 → pcc (N.2.2 56 d 0) N.2.2 j = pcc (M.2.2 56 d 0) M.2.2 j := fun j hj => by
    unfold pcc
    by_cases h1 : j < 128
    · rw [if_pos h1, if_pos h1, hnd, E 248 _ rfl rfl (fm_ist rfl (n82 j h1))]
    · rw [if_neg h1, if_neg h1]
      by_cases h2 : j < 640
      · rw [if_pos h2, if_pos h2, hpp, E 258 _ rfl rfl (fm_ist rfl (n85 _ (by omega)))]
      · rw [if_neg h2, if_neg h2, hpp, E 259 _ rfl rfl (fm_ist rfl (n85 _ (by omega)))]
  have n83 := tN_248 T.1 (n82 0 (by decide))
  refine ⟨⟨kis k W rfl nd, ⟨?_, ?_, ?_, fun x y hx hy h => i1 x y hx hy (by rw [← hnd, ← hnd]; exact h), fun x y hx hy h => i2 x y hx hy (by rw [← hpc x hx, ← hpc y hy]; exact h)⟩, ?_, ?_, ?_, ?_, ?_⟩, ⟨e55, e56, e57⟩, hnd 0, E 248 _ rfl rfl (fm_ist rfl (n82 0 (by decide))), fm_ist rfl n83, e263, e256, e257, fun b hb => E 261 b rfl rfl (fm_ist rfl hb)⟩
  · rw [e56]
    exact kis k W rfl n56
  · rw [e56, e264, L _ (fm_ist rfl n264)]
    exact l1
  · rw [e56, e265, L _ (fm_ist rfl n265)]
    exact l2
  · unfold DR
    rw [e55, e56, e57, e263, e256, e257, c1, c2, c3, c4]
    exact ⟨⟨r1, r1'⟩, ⟨r2, r2'⟩, ⟨r3, r3'⟩, r4, r4'⟩
  · rw [e55, c1, L _ (fm_ist rfl b1)]
    exact m1
  · rw [e56, e263, c2, L _ (fm_ist rfl b2)]
    exact m2
  · rw [e57, e256, c3, L _ (fm_ist rfl b3)]
    exact m3
  · rw [e57, e257, c4, L _ (fm_ist rfl b4)]
    exact m4
theorem alW_k (k : WK S M N) (hd : dj [13, 14, 15, 16, 1015] S = true) (T : Ty M) (W : Wf M) (A : AlW M) : AlW N :=
  ⟨fun u h1 h2 => txt_k T W k ⟨dj_n hd 15 rfl, dj_n hd 16 rfl, dj_n hd 1015 rfl⟩ (A.1 u h1 h2), fun w h1 h2 => by
    have := kf (f := 13) (a := w) k rfl (dj_n hd 13 rfl) (by have := W.2.2.2; omega)
    have y := kf (f := 14) (a := w) k rfl (dj_n hd 14 rfl) (by have := W.2.2.2; omega)
    exact ⟨(congrFun this.2.1 0).trans (A.2 w h1 h2).1, (congrFun y.2.1 0).trans (A.2 w h1 h2).2⟩⟩
theorem treT_k {n : Nat} {v : Nat → Int32} (k : WK S M N) (hd : dj lSt S = true) (T : Ty M) (W : Wf M) (n92 : fm_is M 92 92 m = true) (V : TreT m n v M) : TreT m n v N := by
  obtain ⟨t1, t2, t3, t4, t5⟩ := V
  have n302 := tN_302 T.1 n92
  have n415 := tN_415 T.1 n302
  have e302 := congrFun (kf (f := 302) k rfl (dj_n hd 302 rfl) (wf_lt W (fm_ist rfl n92))).2.2 0
  have e415 := congrFun (kf (f := 415) k rfl (dj_n hd 415 rfl) (wf_lt W (fm_ist rfl n302))).2.2 0
  have e416 := congrFun (kf (f := 416) k rfl (dj_n hd 416 rfl) (wf_lt W (fm_ist rfl n302))).1 0
  have r415 := (ka k (sS_415 W n302) (wf_n0 W (fm_ist rfl n415)) (dj_n hd 1415 rfl) (wf_lt W (fm_ist rfl n415))).1
  have l415 := (ktt k W (fm_ist rfl n415)).2
  refine ⟨?_, t2, ?_, ?_, fun j hj => ?_⟩
  · rw [e302, e416]; exact t1
  · rw [e302, e415, l415]; exact t3
  · rw [e302, e415, l415]; exact t4
  · rw [e302, e415, r415]; exact t5 j hj
/-- what the describing needs, both sides -/
def RelS (mc m np : Nat) (Mc Mt : FM) : Prop := AlW Mc ∧ StD (Mc.2.2 193 mc 0) Mc.2.2 ∧ TpD (Mc.2.2 193 mc 0) (Mc.2.2 191 mc 0) Mc ∧ (∃ o, o ≤ 16384 ∧ Mc.1 254 (Mc.2.2 248 (ndc (Mc.2.2 56 (Mc.2.2 193 mc 0) 0) Mc.2.2 0) 0) 0 = nI o) ∧
  TreT m (treB np).length (fun k => nI ((treB np).getD k 0)) Mt
theorem tpD_k {t : Nat} (k : WK S M N) (hd : dj lSr S = true) (T : Ty M) (W : Wf M) (D : StD d M.2.2) (n86 : fm_is M 86 86 t = true) (V : TpD d t M) : TpD d t N := by
  obtain ⟨_, ⟨e55, e56, e57⟩, _, _, _, e263, e256, e257, e261⟩ := std_k k hd T W D
  have nd : fm_is M 21 21 d = true := D.1
  have hR : ∀ a, dR4 d N.2.2 a ↔ dR4 d M.2.2 a := fun a => by
    unfold dR4
    rw [e55, e56, e57, e263, e256, e257]
  have h86 : ∀ b, dR4 d M.2.2 b → fm_is M 86 86 b = true := fun b hb => by
    rcases hb with rfl | rfl | rfl | rfl
    · exact tN_55 T.1 nd
    · exact tN_263 T.1 (tN_56 T.1 nd)
    · exact tN_256 T.1 (tN_57 T.1 nd)
    · exact tN_257 T.1 (tN_57 T.1 nd)
  obtain ⟨v1, v2, v3⟩ := V
  refine ⟨by rw [e261 t n86]; exact v1, fun q => v2 ((hR t).mp q), fun b hb => ?_⟩
  have hb := (hR b).mp hb
  rw [e261 t n86, e261 b (h86 b hb)]
  exact v3 b hb
theorem relS_k (kc : WK S Mc Nc) (kt : WK S' Mt Nt) (hc : dj lS S = true) (ht' : dj lSt S' = true) (T : Ty Mc) (W : Wf Mc) (T' : Ty Mt) (W' : Wf Mt) (n : fm_is Mc 67 67 mc = true) (n' : fm_is Mt 92 92 m = true) (R : RelS mc m np Mc Mt) : RelS mc m np Nc Nt := by
  obtain ⟨A, D, P, ⟨o, o1, o2⟩, t⟩ := R
  have e193 := congrFun (kf (f := 193) kc rfl (dj_n hc 193 rfl) (wf_lt W (fm_ist rfl n))).2.2 0
  have e191 := congrFun (kf (f := 191) kc rfl (dj_n hc 191 rfl) (wf_lt W (fm_ist rfl n))).2.2 0
  obtain ⟨D', ⟨e55, e56, e57⟩, h0, h1, h2, _⟩ := std_k kc (dj_sub hc (by decide)) T W D
  have h3 := congrFun (kf (f := 254) kc rfl (dj_n hc 254 rfl) (wf_lt W h2)).1 0
  refine ⟨alW_k kc (dj_sub hc (by decide)) T W A, by rw [e193]; exact D', ?_, ⟨o, o1, ?_⟩, treT_k kt ht' T' W' n' t⟩
  · rw [e193, e191]
    exact tpD_k kc (dj_sub hc (by decide)) T W D (tN_191 T.1 n) P
  · rw [e193, h0, h1, h3]
    exact o2
/-- one memory for both -/
theorem sd_k (k : WK S M N) (hd : dj (lS ++ lSt) S = true) (T : Ty M) (W : Wf M) (n67 : fm_is M 67 67 mc = true) (n92 : fm_is M 92 92 m = true) (R : RelS mc m np M M) : RelS mc m np N N :=
  relS_k k k (dj_sub hd (by decide)) (dj_sub hd (by decide)) T W T W n67 n92 R
theorem sd_2 {X : FM} (kc : WK S M N) (kN : WK S' N X) (h1 : dj (lS ++ lSt) S = true) (h2 : dj (lS ++ lSt) S' = true) (T : Ty M) (W : Wf M) (TN : Ty N) (n67 : fm_is M 67 67 mc = true) (n92 : fm_is M 92 92 m = true) (R : RelS mc m np M M) : RelS mc m np X X :=
  sd_k kN h2 TN kc.1.1 (kis kc W rfl n67) (kis kc W rfl n92) (sd_k kc h1 T W n67 n92 R)
end Sd
