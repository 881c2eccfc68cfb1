/-! the law: what is asked of one processor, of memory, of the disk; both sides, the out array written between -/
set_option maxRecDepth 100000
section Zq
variable {bd hv m hq s dd x dk q rq r sg bl cr np mc : Nat} {B Bk Vv ld x1 h k : Nat} {M N : FM} {a b : Int64} {z : Int32}
/-- the out array stands between the component's memory and the twin's -/
theorem Z_mid {o : Nat} {v : Int64} (Z : RelZ bd hv m hq s dd x dk q rq r sg bl cr np mc ld x1 B Bk Vv M) (n : fm_is M 902 902 o = true) (sf : Sf M o 9) : RelM bd hv m hq s dd x dk q rq r sg bl cr np mc B Bk Vv M (fm_sL M 3 o 0 v) := by
  obtain ⟨R, T, W⟩ := Z_r Z
  obtain ⟨_, _, _, _, _, ⟨ow, Ow⟩, _, _⟩ := id R
  exact two_c (S := [1000 + 9]) R (WK_aL W n sf v) (by decide) ⟨T.1, T.2⟩ ⟨_, own_n rfl Ow⟩
theorem Z_fin {Nt : FM} {S : List Nat} (Z1 : RelZ bd hv m hq s dd x dk q rq r sg bl cr np mc ld x1 B Bk Vv N) (R : RelM bd hv m hq s dd x dk q rq r sg bl cr np mc B Bk Vv M Nt) (kk : WK S N Nt) (h1 : dj (uMc ++ uCc) S = true) (h2 : dj (297 :: uTt) S = true) (h3 : dj lZr S = true) (h4 : dj lZl S = true) (h5 : dj ([17, 316, 414] ++ (lS ++ lSt)) S = true) : RelZ bd hv m hq s dd x dk q rq r sg bl cr np mc ld x1 B Bk Vv Nt := by
  obtain ⟨_, _, _, _, _, _, O2, _⟩ := id R
  exact Z_k Z1 kk h1 h2 h3 h4 h5 (relM_ram R).2.1.1 O2
theorem Z_counter (Z : RelZ bd hv m hq s dd x dk q rq r sg bl cr np mc ld x1 B Bk Vv M) (Z1 : RelZ bd hv m hq s dd x dk q rq r sg bl cr np mc ld x1 B Bk Vv N) (R : RelM bd hv m hq s dd x dk q rq r sg bl cr np mc B Bk Vv M N) (hh : h < np) : ∃ v Nt, (HX1_counter x1 (nI h) M ∧ GX1_counter x1 (nI h) M = (v, M)) ∧ (HX92_counter m (nI h) N ∧ GX92_counter m (nI h) N = (v, Nt)) ∧ Nt.1 296 m 0 = 0 ∧ RelZ bd hv m hq s dd x dk q rq r sg bl cr np mc ld x1 B Bk Vv Nt := by
  obtain ⟨v, Nt, a1, a2, a3, a4, a5⟩ := O_counter R Z.2.2.2.1 hh
  exact ⟨v, Nt, a1, a2, a4, Z_fin Z1 a3 a5 (by decide) (by decide) (by decide) (by decide) (by decide)⟩
theorem Z_mode (Z : RelZ bd hv m hq s dd x dk q rq r sg bl cr np mc ld x1 B Bk Vv M) (Z1 : RelZ bd hv m hq s dd x dk q rq r sg bl cr np mc ld x1 B Bk Vv N) (R : RelM bd hv m hq s dd x dk q rq r sg bl cr np mc B Bk Vv M N) (hh : h < np) : ∃ v Nt, (HX1_mode x1 (nI h) M ∧ GX1_mode x1 (nI h) M = (v, M)) ∧ (HX92_mode m (nI h) N ∧ GX92_mode m (nI h) N = (v, Nt)) ∧ Nt.1 296 m 0 = 0 ∧ RelZ bd hv m hq s dd x dk q rq r sg bl cr np mc ld x1 B Bk Vv Nt := by
  obtain ⟨v, Nt, a1, a2, a3, a4, a5⟩ := O_mode R Z.2.2.2.1 hh
  exact ⟨v, Nt, a1, a2, a4, Z_fin Z1 a3 a5 (by decide) (by decide) (by decide) (by decide) (by decide)⟩
theorem Z_register (Z : RelZ bd hv m hq s dd x dk q rq r sg bl cr np mc ld x1 B Bk Vv M) (Z1 : RelZ bd hv m hq s dd x dk q rq r sg bl cr np mc ld x1 B Bk Vv N) (R : RelM bd hv m hq s dd x dk q rq r sg bl cr np mc B Bk Vv M N) (hh : h < np) (hk : k < 32) : ∃ v Nt, (HX1_register x1 (nI h) (nI k) M ∧ GX1_register x1 (nI h) (nI k) M = (v, M)) ∧ (HX92_register m (nI h) (nI k) N ∧ GX92_register m (nI h) (nI k) N = (v, Nt)) ∧ Nt.1 296 m 0 = 0 ∧ RelZ bd hv m hq s dd x dk q rq r sg bl cr np mc ld x1 B Bk Vv Nt := by
  obtain ⟨v, Nt, a1, a2, a3, a4, a5⟩ := O_register R Z.2.2.2.1 hh hk
  exact ⟨v, Nt, a1, a2, a4, Z_fin Z1 a3 a5 (by decide) (by decide) (by decide) (by decide) (by decide)⟩
theorem Z_floating (Z : RelZ bd hv m hq s dd x dk q rq r sg bl cr np mc ld x1 B Bk Vv M) (Z1 : RelZ bd hv m hq s dd x dk q rq r sg bl cr np mc ld x1 B Bk Vv N) (R : RelM bd hv m hq s dd x dk q rq r sg bl cr np mc B Bk Vv M N) (hh : h < np) (hk : k < 32) : ∃ v Nt, (HX1_floating x1 (nI h) (nI k) M ∧ GX1_floating x1 (nI h) (nI k) M = (v, M)) ∧ (HX92_floating_2 m (nI h) (nI k) N ∧ GX92_floating_2 m (nI h) (nI k) N = (v, Nt)) ∧ Nt.1 296 m 0 = 0 ∧ RelZ bd hv m hq s dd x dk q rq r sg bl cr np mc ld x1 B Bk Vv Nt := by
  obtain ⟨v, Nt, a1, a2, a3, a4, a5⟩ := O_floating R Z.2.2.2.1 hh hk
  exact ⟨v, Nt, a1, a2, a4, Z_fin Z1 a3 a5 (by decide) (by decide) (by decide) (by decide) (by decide)⟩
theorem Z_word (Z : RelZ bd hv m hq s dd x dk q rq r sg bl cr np mc ld x1 B Bk Vv M) (Z1 : RelZ bd hv m hq s dd x dk q rq r sg bl cr np mc ld x1 B Bk Vv N) (R : RelM bd hv m hq s dd x dk q rq r sg bl cr np mc B Bk Vv M N) (hr : inR a 8) : ∃ v Nt, (HX1_word x1 a M ∧ GX1_word x1 a M = (v, M)) ∧ (HX92_word m a N ∧ GX92_word m a N = (v, Nt)) ∧ Nt.1 296 m 0 = 0 ∧ RelZ bd hv m hq s dd x dk q rq r sg bl cr np mc ld x1 B Bk Vv Nt := by
  obtain ⟨v, a1, a2⟩ := O_word R Z.2.2.2.1 hr
  exact ⟨v, _, a1, a2, rIe _, Z_296 Z1 _⟩
theorem Z_sum (Z : RelZ bd hv m hq s dd x dk q rq r sg bl cr np mc ld x1 B Bk Vv M) (Z1 : RelZ bd hv m hq s dd x dk q rq r sg bl cr np mc ld x1 B Bk Vv N) (R : RelM bd hv m hq s dd x dk q rq r sg bl cr np mc B Bk Vv M N) (hp : sumP a b) (hr : b = a ∨ inR a (ul (b - a))) : ∃ v Nt, (HX1_sum x1 a b M ∧ GX1_sum x1 a b M = (v, M)) ∧ (HX92_sum m a b N ∧ GX92_sum m a b N = (v, Nt)) ∧ Nt.1 296 m 0 = 0 ∧ RelZ bd hv m hq s dd x dk q rq r sg bl cr np mc ld x1 B Bk Vv Nt := by
  obtain ⟨v, a1, a2⟩ := O_sum R Z.2.2.2.1 hp hr
  exact ⟨v, _, a1, a2, rIe _, Z_296 Z1 _⟩
theorem Z_disk (Z : RelZ bd hv m hq s dd x dk q rq r sg bl cr np mc ld x1 B Bk Vv M) (Z1 : RelZ bd hv m hq s dd x dk q rq r sg bl cr np mc ld x1 B Bk Vv N) (R : RelM bd hv m hq s dd x dk q rq r sg bl cr np mc B Bk Vv M N) (hk : k < 1048576) : ∃ v Nt, (HX1_disk x1 (nI k) M ∧ GX1_disk x1 (nI k) M = (v, M)) ∧ (HX92_disk m (nI k) N ∧ GX92_disk m (nI k) N = (v, Nt)) ∧ Nt.1 296 m 0 = 0 ∧ RelZ bd hv m hq s dd x dk q rq r sg bl cr np mc ld x1 B Bk Vv Nt := by
  obtain ⟨v, a1, a2⟩ := O_disk R Z.2.2.2.1 hk
  obtain ⟨R1, k1⟩ := ob_324 Z1.1 (Int32.ofInt 0)
  exact ⟨v, _, a1, a2, rIe _, Z_296 (Z_t Z1 R1 k1 (by decide) (by decide) (by decide) (by decide)) _⟩
/-- the refused ones: the twin says why in 296 -/
theorem Z_word0 (Z1 : RelZ bd hv m hq s dd x dk q rq r sg bl cr np mc ld x1 B Bk Vv N) (hr : ¬ inR a 8) : ∃ Nt, GX11_has r a (Int64.ofInt 8) N = (Int32.ofInt 0, N) ∧ (HX92_word m a N ∧ GX92_word m a N = (Int64.ofInt 0, Nt)) ∧ Nt.1 296 m 0 = Int32.ofInt 1 ∧ RelZ bd hv m hq s dd x dk q rq r sg bl cr np mc ld x1 B Bk Vv Nt := by
  obtain ⟨a1, a2⟩ := O_word0 Z1.1 hr
  exact ⟨_, a1, a2, rIe _, Z_296 Z1 _⟩
theorem Z_disk0 (Z1 : RelZ bd hv m hq s dd x dk q rq r sg bl cr np mc ld x1 B Bk Vv N) (hz : z < 0 ∨ nI 1048576 ≤ z) : ∃ Nt, GX23_isPlace dk z N = (Int32.ofInt 0, N) ∧ (HX92_disk m z N ∧ GX92_disk m z N = (Int32.ofInt 0, Nt)) ∧ Nt.1 296 m 0 = Int32.ofInt 1 ∧ RelZ bd hv m hq s dd x dk q rq r sg bl cr np mc ld x1 B Bk Vv Nt := by
  obtain ⟨a1, a2⟩ := O_disk0 Z1.1 hz
  obtain ⟨R1, k1⟩ := ob_324 Z1.1 (Int32.ofInt 1)
  exact ⟨_, a1, a2, rIe _, Z_296 (Z_t Z1 R1 k1 (by decide) (by decide) (by decide) (by decide)) _⟩
theorem Z_sum1 (Z1 : RelZ bd hv m hq s dd x dk q rq r sg bl cr np mc ld x1 B Bk Vv N) (hp : ¬ sumP a b) : ∃ Nt, (HX92_sum m a b N ∧ GX92_sum m a b N = (Int64.ofInt 0, Nt)) ∧ Nt.1 296 m 0 = Int32.ofInt 1 ∧ RelZ bd hv m hq s dd x dk q rq r sg bl cr np mc ld x1 B Bk Vv Nt :=
  ⟨_, O_sum1 Z1.1 hp, rIe _, Z_296 Z1 _⟩
theorem Z_sum2 (Z1 : RelZ bd hv m hq s dd x dk q rq r sg bl cr np mc ld x1 B Bk Vv N) (hp : sumP a b) (hr : ¬ (b = a ∨ inR a (ul (b - a)))) : ∃ Nt, GX11_has r a (b - a) N = (Int32.ofInt 0, N) ∧ (HX92_sum m a b N ∧ GX92_sum m a b N = (Int64.ofInt 0, Nt)) ∧ Nt.1 296 m 0 = Int32.ofInt 2 ∧ RelZ bd hv m hq s dd x dk q rq r sg bl cr np mc ld x1 B Bk Vv Nt := by
  obtain ⟨a1, a2⟩ := O_sum2 Z1.1 hp hr
  exact ⟨_, a1, a2, rIe _, Z_296 Z1 _⟩
end Zq
