/-! putfield, new things -/
section FsN
variable {E : FE} {p : Program} {l : Launch} {e : Env} {R : Room} {s : State} {m : MethodId} {args : Array Value} {below : List Frame} {meth : Method} {c : Code} {nL NF SF N0 S0 : Nat} {Q : State → Prop} {cc : ByteArray} {own : String} {ret : Option FieldType} {S : FS}
theorem fs_putf {pc n idx : Nat} {ref O name desc : String} {fin : Bool} {ty : FieldType} (C : fs_C E p R s m args meth c cc own nL ret NF SF N0 S0) (hd : decode cc pc = .ok (.putfield idx, 3))
    (hlk : (fin = false ∧ ((Cond.fieldLink own idx ref name desc).before args s = true ∨ ∃ host, (Cond.fieldLinkNest own idx ref name desc host).before args s = true)) ∨ (fin = true ∧ (Cond.fieldLink own idx ref name desc).before args s = true ∧ meth.name = "<init>" ∧ O = own))
    (hsame : ∀ x, s.fieldFound? O name desc = some x → s.fieldFound? ref name desc = some x) (hlo : 0 < n / 4096 % 1024) (hhi : n / 4 % 1024 < 900) (hfid : 10 ≤ n / 4194304) (hty : parseFieldDescriptor desc = some ty) (hkd : fs_kd ty = n % 4) (hby : ty ≠ .byte)
    (hf : ∀ t, n / 4096 % 1024 ≤ t → t ≤ n / 4 % 1024 → E.2.2.2.2.2.2.2 t = true ∧ fs_fld E t O name desc (n / 4194304) (n % 4) fin) :
    fs_Snd S own cc ret nL E p l e R s m args below meth c NF SF N0 S0 Q pc (pc + 3) (.putfield n) := by
  intro Rt go kr r L st M h hgo hret
  change fe_put go n (pc + 3) L st M = some r at h
  unfold fe_put at h
  simp only [fi_if] at h
  simp only [fe_bif] at h
  split at h
  · rename_i v a st'
    split at h
    · rename_i hq
      have key : (ty = .int ∨ (ty = .boolean ∧ (v = 0 ∨ v = 1))) → go (pc + 3) L st' (fm_sI M (n / 4194304) a 0 v) = some r → fs_G E p l e R s m args below meth c nL NF SF N0 S0 Q pc L (.int v :: .ref a :: st') M := by
        intro hv h
        have k12 : n % 4 ≠ 1 ∧ n % 4 ≠ 2 := by
          rw [← hkd]
          rcases hv with rfl | ⟨rfl, -⟩ <;> decide
        refine fs_sto (M' := fm_sI M (n / 4194304) a 0 v) rfl rfl (hgo _ _ _ _ h) (fun H ls locs cells slots hR kk => ?_)
        refine fs_putc C hd hlk hsame hlo hhi hty hf (M' := fm_sI M (n / 4194304) a 0 v) (v := .int v) hR hq ?_ ?_ (fun f b i hb => ⟨by simp [fm_sI, hb], rfl, rfl⟩) rfl ?_ (fun q hq => ?_) kk
        · rcases hv with rfl | ⟨rfl, rfl | rfl⟩ <;> rfl
        · rcases hv with rfl | ⟨rfl, rfl | rfl⟩ <;> rfl
        · simp [fs_fv, fm_sI, k12.1, k12.2]
        · simp [fs_fv, fm_sI, hq]
      split at h
      · rename_i k0
        refine key (Or.inl ?_) h
        rw [k0] at hkd
        cases ty <;> first | rfl | exact absurd hkd (by decide) | exact absurd rfl hby | (exact absurd hkd (by simp [fs_kd]))
      · split at h
        · rename_i k0 k3
          split at h
          · rename_i hv
            refine key (Or.inr ⟨?_, hv⟩) h
            rw [k3] at hkd
            cases ty <;> first | rfl | (exact absurd hkd (by simp [fs_kd]))
          · cases h
        · cases h
    · cases h
  · rename_i v a st'
    split at h
    · rename_i hq
      split at h
      · rename_i k1
        obtain rfl : ty = .long := by
          rw [k1] at hkd
          cases ty <;> first | rfl | (exact absurd hkd (by simp [fs_kd]))
        refine fs_sto (M' := fm_sL M (n / 4194304) a 0 v) rfl rfl (hgo _ _ _ _ h) (fun H ls locs cells slots hR kk => ?_)
        refine fs_putc C hd hlk hsame hlo hhi hty hf (M' := fm_sL M (n / 4194304) a 0 v) (v := .long v) hR hq rfl rfl (fun f b i hb => ⟨rfl, by simp [fm_sL, hb], rfl⟩) rfl ?_ (fun q hq => ?_) kk
        · simp [fs_fv, fm_sL, k1]
        · simp [fs_fv, fm_sL, hq]
      · cases h
    · cases h
  · rename_i v a st'
    split at h
    · rename_i hq
      split at h
      · rename_i k2
        have h20 : n / 4194304 ≠ 0 ∧ n / 4194304 ≠ 2 := by omega
        have h1000 : ∀ H, fs_Rel E M H → 1000 ≤ a := fun H hR => by
          obtain ⟨t, t1, t2, t3, -⟩ := fs_obj hR hlo hhi hq
          exact fs_wr hR (by rw [t3]; exact (hf t t1 t2).1)
        refine fs_sto (M' := fm_sR M (n / 4194304) a 0 v) (by simp [fm_nx, fm_sR]; omega) (by simp [fm_ns, fm_sR]) (hgo _ _ _ _ h) (fun H ls locs cells slots hR kk => ?_)
        refine fs_putc C hd hlk hsame hlo hhi hty hf (M' := fm_sR M (n / 4194304) a 0 v) (v := fs_rv E v) hR hq ?_ ?_ (fun f b i hb => ⟨rfl, rfl, by simp [fm_sR, hb]⟩) (by simp [fm_sR]; omega) ?_ (fun q hq => ?_) kk
        · rw [k2] at hkd
          rcases fs_rv_c E v with ⟨-, e⟩ | ⟨-, e⟩ <;> rw [e] <;> cases ty <;> first | rfl | (exact absurd hkd (by simp [fs_kd]))
        · rw [k2] at hkd
          rcases fs_rv_c E v with ⟨-, e⟩ | ⟨-, e⟩ <;> rw [e] <;> cases ty <;> first | rfl | (exact absurd hkd (by simp [fs_kd]))
        · simp [fs_fv, fm_sR, k2]
        · simp [fs_fv, fm_sR, hq]
      · cases h
    · cases h
  · cases h
theorem fs_alloc {pc pc' N : Nat} {L : fm_L} {st st' : List Value} {M M' : FM} (hRR : R.cells + N0 = NF ∧ R.slots + S0 = SF) (hnx : fm_nx M' = fm_nx M + 1) (hns : fm_ns M' = fm_ns M + N) (k : fs_G E p l e R s m args below meth c nL NF SF N0 S0 Q pc' L st' M')
    (h : ∀ (H : Heap) (ls : Array Slot) (locs : List Loc) (cells slots : Nat), fs_Rel E M H → cells + 1 ≤ R.cells → slots + N ≤ R.slots → (∀ H' : Heap, fs_Rel E M' H' → W p l e R s m args below meth c H' locs (cells + 1) (slots + N) Q (F0 m pc' ls (st'.map (fs_tr E)))) → W p l e R s m args below meth c H locs cells slots Q (F0 m pc ls (st.map (fs_tr E)))) : fs_G E p l e R s m args below meth c nL NF SF N0 S0 Q pc L st M := by
  have kb := k.1
  rw [hnx, hns] at kb
  refine ⟨⟨by omega, by omega⟩, fun H ls locs cells slots h1 h2 h3 h4 h5 => h _ _ _ _ _ h1 (by omega) (by omega) (fun H' hR' => k.2 H' ls _ _ _ hR' h2 h3 (by omega) (by omega))⟩
theorem fs_newo {pc n idx : Nat} {CC : String} {T : u_T} {N : Nat} (C : fs_C E p R s m args meth c cc own nL ret NF SF N0 S0) (hd : decode cc pc = .ok (.new idx, 3)) (hcl : (Cond.classLink own idx CC).before args s = true) (hins : (Cond.instantiable CC (n % 64)).before args s = true) (hini : (Cond.initialized CC).before args s = true)
    (h0 : n / 64 ≠ 0) (h9 : n / 64 < 900) (ht : E.2.2.2.2.1[n / 64]? = some (CC, T, N)) (hwr : E.2.2.2.2.2.2.2 (n / 64) = true) : fs_Snd S own cc ret nL E p l e R s m args below meth c NF SF N0 S0 Q pc (pc + 3) (.new n) := by
  obtain ⟨hx, hb, hml, hown, hwm, hlk0, hr, hRR, hE⟩ := C
  intro Rt go kr r L st M h hgo hret
  have hnx : fm_nx (fm_new M (n / 64) (n % 64)) = fm_nx M + 1 := by simp [fm_nx, fm_new, fm_sR]
  have hns : fm_ns (fm_new M (n / 64) (n % 64)) = fm_ns M + n % 64 := by simp [fm_ns, fm_new, fm_sR]
  refine fs_alloc hRR hnx hns (hgo _ _ _ _ h) (fun H ls locs cells slots hR b1 b2 kk => ?_)
  have hK := fs_K (s := s) hE hwm
  obtain ⟨hS, hfc, kC0, hkC0, hkind⟩ := hK.1 _ _ ht
  have r3 : 1000 ≤ fm_nx M := hR.2.1.1
  have r4 := hR.2.1.2
  have hra : fs_ra E (fm_nx M) = H.size := by
    unfold fs_ra
    rw [if_neg (by omega)]
    omega
  refine W.newcK hx hb hown hcl hins hini rfl hd b1 b2 hfc rfl (fun H' kC e0 e1 e2 e3 => ?_)
  have e : ((Value.ref (fm_nx M) :: st).map (fs_tr E)) = .ref H.size :: st.map (fs_tr E) := by
    rw [fs_map_ref (fs_rv_ne (by omega)), hra]
  have k2 := kk H' (fs_Rel_new hE hR h0 (fun f b i hb hb0 => ⟨rfl, rfl, by simp [fm_new, fm_sR, hb, hb0]⟩) (by simp [fm_new, fm_sR]; omega) (by simp [fm_new, fm_sR]) hnx e2 e3 ?_)
  · rw [e] at k2
    exact k2
  · unfold fs_cell
    rw [if_pos h9]
    obtain ⟨ty0, hty0⟩ := (hE.2.2.2.2 _ _ ht).2.2.1
    refine ⟨_, ht, ?_, fun h => by rw [hwr] at h; cases h⟩
    rw [hra]
    refine (u_born ty0 (fs_words hE hwm ht hwr args) (fun w hw => hw) (hK.1 _ _ ht) e0 e1 (fun k hk => (hty0 k hk).1)).to (fun k hk => ?_)
    obtain ⟨-, g2, g3, g4⟩ := hty0 k hk
    obtain ⟨z1, z2, z3⟩ := hR.2.2.2.2 (fm_nx M) (Nat.le_refl _) (E.2.2.2.2.2.1 (n / 64) k).1 0
    have z4 : (fm_new M (n / 64) (n % 64)).2.2 (E.2.2.2.2.2.1 (n / 64) k).1 (fm_nx M) 0 = 0 := by
      have g5 : (E.2.2.2.2.2.1 (n / 64) k).1 ≠ 2 := by omega
      have g6 : (E.2.2.2.2.2.1 (n / 64) k).1 ≠ 0 := by omega
      simp [fm_new, fm_sR, z3, g5, g6]
    have z5 : (fm_new M (n / 64) (n % 64)).1 (E.2.2.2.2.2.1 (n / 64) k).1 (fm_nx M) 0 = 0 := z1
    have z6 : (fm_new M (n / 64) (n % 64)).2.1 (E.2.2.2.2.2.1 (n / 64) k).1 (fm_nx M) 0 = 0 := z2
    unfold fs_fv
    rw [g2, z4, z5, z6]
    cases hh : ty0 k <;> rw [hh] at g3 <;> first | rfl | exact absurd rfl g3
end FsN
