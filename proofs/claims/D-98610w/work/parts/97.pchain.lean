/-! LAWS: chains, their texts (own work) -/
set_option maxRecDepth 100000
/-- the text b with its bytes in v -/
def SbPe (g : GS) (ρ : Nat → Nat) (r b v : Nat) (ss : List Int32) : Prop :=
  gK g b = 13 ∧ ρ b = r ∧ b < gz g ∧ gI g b 1 = 0 ∧ gI g b 3 = nI ss.length ∧ gR g b 0 = v + 1 ∧ v < gz g ∧ gK g v = 101 ∧ ρ v = r ∧ ss.length ≤ gN g v ∧ gN g v ≤ 5000 ∧ (∀ i s, ss[i]? = some s → gI g v i = s) ∧ (∀ s, s ∈ ss → okS s) ∧ ∀ i, -128 ≤ (gI g v i).toInt ∧ (gI g v i).toInt ≤ 127
theorem SbPe.sb {g : GS} {ρ : Nat → Nat} {r b v : Nat} {ss : List Int32} (h : SbPe g ρ r b v ss) : SbP g ρ r b ss := by
  obtain ⟨h1, h2, h3, h4, h5, h6, h7, h8, h9, h10, h11, h12, -⟩ := h
  exact ⟨h1, h2, h3, h4, h5, v, h6, h7, h8, h9, h10, h11, h12⟩
theorem SbPe.to {W : Nat → Prop} {g g' : GS} {ρ ρ' : Nat → Nat} {r b v : Nat} {ss : List Int32} (h : SbPe g ρ r b v ss) (hF : Fr W g g') (hA : Ag g ρ ρ') (hW : ∀ q, q < gz g → W q → ¬ q = b ∧ ¬ q = v) : SbPe g' ρ' r b v ss := by
  obtain ⟨h1, h2, h3, h4, h5, h6, h7, h8, h9, h10, h11, h12, h13⟩ := h
  have hb : ¬ W b := fun k => (hW b h3 k).1 rfl
  have hv : ¬ W v := fun k => (hW v h7 k).2 rfl
  exact ⟨by rw [hF.K h3, h1], by rw [hA b h3, h2], hF.lt h3, by rw [hF.I h3 hb, h4], by rw [hF.I h3 hb, h5], by rw [hF.R h3 hb, h6], hF.lt h7, by rw [hF.K h7, h8], by rw [hA v h7, h9], by rw [hF.N h7]; exact h10, by rw [hF.N h7]; exact h11, fun i s hs => by rw [hF.I h7 hv]; exact h12 i s hs, h13.1, fun i => by rw [hF.I h7 hv]; exact h13.2 i⟩
theorem okS_b {s : Int32} (h : okS s) : s.toInt8.toInt32.toInt8.toInt32 = s ∧ ¬ (255 : Int32) < s := by
  rcases h with rfl | rfl | rfl | rfl | rfl | rfl | rfl | rfl <;> decide
/-- a new text -/
theorem J14_init_l {g : GS} {ρ : Nat → Nat} {r : Nat} : ∃ g', J14_init (gz g) (nw_ g 13 4) = some (((), g'), 1, 16) ∧ SbPe g' (nr ρ g r) r (gz g) (gz g + 1) [] ∧ Fr no_ g g' ∧ gz g' = gz g + 2 ∧ gN g' (gz g + 1) = 16 := by
  have hz : gz (nw_ g 13 4) = gz g + 1 := rfl
  have hne : ¬ gz g = gz g + 1 := by omega
  refine ⟨pI (pR (nw_ (nw_ g 13 4) 101 16) (gz g) 0 (gz g + 1 + 1)) (gz g) 1 0, ?_, ⟨?_, nr_ge (Nat.le_refl _), ?_, ?_, ?_, ?_, ?_, ?_, nr_ge (by omega), ?_, ?_, fun i s hs => (by cases hs), fun s hs => (by cases hs), fun i => ?_⟩, ?_, ?_, ?_⟩
  · unfold J14_init J13_init
    rw [if_neg (by decide), e_na (by decide), e_al, hz, e_wk (by rw [K_nw, hz, if_neg hne, K_nw, if_pos rfl]), e_b0, e_ca, e_b0]
    rfl
  · rw [K_pI, K_pR, K_nw, hz, if_neg hne, K_nw, if_pos rfl]
  · rw [z_pI, z_pR, z_nw, hz]; omega
  · rw [I_pI, if_pos ⟨rfl, rfl⟩]
  · rw [I_pI, if_neg (by rintro ⟨-, q⟩; cases q), I_pR, I_nw, hz, if_neg hne, I_nw, if_pos rfl]; rfl
  · rw [R_pI, R_pR, if_pos ⟨rfl, rfl⟩]
  · rw [z_pI, z_pR, z_nw, hz]; omega
  · rw [K_pI, K_pR, K_nw, if_pos hz.symm]
  · exact Nat.zero_le _
  · rw [N_pI, N_pR, N_nw, if_pos hz.symm]; omega
  · rw [I_pI, if_neg (by rintro ⟨q, -⟩; omega), I_pR, I_nw, if_pos hz.symm]; decide
  · exact (((Fr.nw (W := no_)).trans (Fr.nw (W := no_)) (fun _ _ k => k)).trans (Fr.pR (W := fun q => q = gz g) rfl) (fun q hq k => by omega)).trans (Fr.pI (W := fun q => q = gz g) rfl) (fun q hq k => by omega)
  · rw [z_pI, z_pR, z_nw, hz]
  · rw [N_pI, N_pR, N_nw, if_pos hz.symm]
theorem fits_b {v : Int32} (h : -128 ≤ v.toInt ∧ v.toInt ≤ 127) : fits .byte (.int v) = true := by
  show (decide (-128 ≤ v) && decide (v ≤ 127)) = true
  have k1 : ((-128 : Int32)).toInt = -128 := by decide
  have k2 : ((127 : Int32)).toInt = 127 := by decide
  rw [Bool.and_eq_true, decide_eq_true_iff, decide_eq_true_iff, i_le, i_le, k1, k2]
  exact h
theorem okS_rg {s : Int32} (h : okS s) : -128 ≤ s.toInt ∧ s.toInt ≤ 127 := by
  rcases h with rfl | rfl | rfl | rfl | rfl | rfl | rfl | rfl <;> decide
/-- the room is made -/
theorem J13_ensure_l {g : GS} {ρ : Nat → Nat} {r b v : Nat} {ss : List Int32} (h : SbPe g ρ r b v ss) (hl : ss.length ≤ 1500) :
    ∃ g' v' dc ds, J13_ensureCapacityInternal b (nI (ss.length + 1)) g = some (((), g'), dc, ds) ∧ SbPe g' (nr ρ g r) r b v' ss ∧ ss.length < gN g' v' ∧ Fr (fun q => q = b) g g' ∧ dc ≤ 1 ∧ ds + 2 * gN g v ≤ 2 * gN g' v' ∧ (gN g' v' ≤ gN g v ∨ gN g' v' ≤ 2 * ss.length + 2) ∧ (v' = v ∨ v' = gz g) := by
  obtain ⟨h1, h2, h3, h4, h5, h6, h7, h8, h9, h10, h11, h12, h13, h14⟩ := id h
  have hs0 : Int32.ofNat (gN g v) >>> ((0 : Int32) &&& 31) = nI (gN g v) := by
    rw [show ((0 : Int32) &&& 31) = 0 from rfl, Int32.shiftRight_zero]; rfl
  have hsub : nI (ss.length + 1) - nI (gN g v) ≤ 0 ↔ ss.length + 1 ≤ gN g v := by
    rw [i_le, i_sub (by rw [i_n (by omega), i_n (by omega)]; omega) (by rw [i_n (by omega), i_n (by omega)]; omega), i_n (by omega), i_n (by omega), k_0]
    omega
  unfold J13_ensureCapacityInternal
  rw [e_wk h1, h6, e_nn, e_rk (by rw [h8]), h4, hs0]
  by_cases hc : ss.length + 1 ≤ gN g v
  · rw [if_pos (hsub.mpr hc)]
    exact ⟨g, v, 0, 0, rfl, h.to (W := no_) Fr.rf nr_ag (fun _ _ k => k.elim), by omega, Fr.rf, by omega, by omega, Or.inl (Nat.le_refl _), Or.inl rfl⟩
  · have hcap : gN g v = ss.length := by omega
    have hnl : J15_newLength (nI (gN g v)) (nI (ss.length + 1) - nI (gN g v)) (nI (gN g v) + 2) = some (nI (2 * ss.length + 2)) := by
      have e1 : nI (ss.length + 1) - nI (gN g v) = nI 1 := by
        rw [hcap, i_eq, i_sub (by rw [i_n (by omega), i_n (by omega)]; omega) (by rw [i_n (by omega), i_n (by omega)]; omega), i_n (by omega), i_n (by omega), i_n (by omega)]
        omega
      have e2 : nI (gN g v) + 2 = nI (ss.length + 2) := by rw [hcap]; exact nI_add ss.length 2
      have e3 : jmax_ (nI 1) (nI (ss.length + 2)) = nI (ss.length + 2) := by
        unfold jmax_
        rw [if_pos (nI_lt (by omega) (by omega))]
      unfold J15_newLength
      rw [e1, e2, e3, hcap, nI_add, if_neg (nI_nle (by omega) (by omega)), if_neg, show ss.length + (ss.length + 2) = 2 * ss.length + 2 by omega]
      rw [i_lt, i_n (by omega)]
      show ¬ (2147483639 : Int) < _
      omega
    have hmaxv : ¬ nI (2 * ss.length + 2) = 2147483647 := by
      rw [i_eq, i_n (by omega)]
      show ¬ (_ : Int) = 2147483647
      omega
    have hsh : ∀ n : Nat, nI n >>> ((0 : Int32) &&& 31) = nI n := fun n => by rw [show ((0 : Int32) &&& 31) = 0 from rfl, Int32.shiftRight_zero]
    have hshl : ∀ n : Nat, nI n <<< ((0 : Int32) &&& 31) = nI n := fun n => by rw [show ((0 : Int32) &&& 31) = 0 from rfl, Int32.shiftLeft_zero]
    have h2l : (2 : Int32) <<< ((0 : Int32) &&& 31) = 2 := by decide
    have hnc : J13_newCapacity b (nI (ss.length + 1)) g = some ((nI (2 * ss.length + 2), g), 0, 0) := by
      unfold J13_newCapacity
      rw [e_wk h1, h6, e_nn, e_rk (by rw [h8]), h4, hshl, h2l]
      show ob_ (J15_newLength (nI (gN g v)) (nI (ss.length + 1) - nI (gN g v)) (nI (gN g v) + 2)) _ = _
      rw [hnl, e_ob, if_neg hmaxv, hsh]
    sorry
