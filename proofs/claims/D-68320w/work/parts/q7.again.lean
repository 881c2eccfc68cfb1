/-! a second walk in the same page writes nothing -/
set_option maxRecDepth 100000
section Ag
variable {ld ld' : Nat → Int64} {rt ac md : Int32} {a a' tb : Int64} {F T : Nat → Nat} {K : Rg} {b : Nat}
theorem sar_pg (h : ul a / 4096 = ul a' / 4096) : a >>> ((Int32.ofInt 12).toInt64 &&& 63) = a' >>> ((Int32.ofInt 12).toInt64 &&& 63) := by
  apply ul_inj
  have e12 : ui (Int32.ofInt 12) % 64 = 12 := rfl
  have l1 := ul_lt a
  have l2 := ul_lt a'
  have p12 : (2 : Nat) ^ 12 = 4096 := by decide
  by_cases c : ul a < 9223372036854775808
  · rw [ul_sar0 a _ c, ul_sar0 a' _ (by omega), e12, p12]
    exact h
  · rw [ul_sar1 a _ (by omega), ul_sar1 a' _ (by omega), e12, p12]
    omega
theorem wfd_again (h : (wfd ld (okLw F T K) (okSw F T K) rt ac md a tb).1 = .inr b) (hp : ul a / 4096 = ul a' / 4096)
    (hm : ∀ y, y < 2 ^ 57 → okR y → y % 8 = 0 → ld' y = lwr (wfd ld (okLw F T K) (okSw F T K) rt ac md a tb).2.1 ld y) :
    (wfd ld' (okLw F T K) (okSw F T K) rt ac md a' tb).1 = .inr b ∧ (wfd ld' (okLw F T K) (okSw F T K) rt ac md a' tb).2.1 = none := by
  have p56 : (2 : Nat) ^ 56 = 72057594037927936 := by decide
  unfold wfd at h hm ⊢
  by_cases k : pln md tb
  · rw [fi_pos k] at h ⊢
    by_cases k2 : ul a < 2 ^ 56
    · rw [fi_pos k2] at h
      rw [fi_pos (by omega), ← hp]
      exact ⟨h, rfl⟩
    · rw [fi_neg k2] at h
      cases h
  · rw [fi_neg k] at h ⊢
    rw [fi_neg k] at hm
    have ag := wlk0_again h
    have e : wlk0 ld' (okLw F T K) (okSw F T K) rt ac md a tb = wlk0 (lwr (wlk0 ld (okLw F T K) (okSw F T K) rt ac md a tb).2.1 ld) (okLw F T K) (okSw F T K) rt ac md a tb := by
      refine wlk0_c (fun x hx => ?_)
      have h8 := wlk0_8.2 x hx
      exact hm x h8.2 (wlk0_ok.2 x hx).1 h8.1
    rw [← wlk0_pg (sar_pg hp), e, ag]
    exact ⟨rfl, rfl⟩
end Ag
