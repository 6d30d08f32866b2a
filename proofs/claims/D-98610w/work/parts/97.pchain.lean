/-! LAWS: chains, their texts (own work) -/
set_option maxRecDepth 100000
/-- the text b with its bytes in v -/
def SbPe (g : GS) (ρ : Nat → Nat) (r b v : Nat) (ss : List Int32) : Prop :=
  gK g b = 13 ∧ ρ b = r ∧ b < gz g ∧ gI g b 1 = 0 ∧ gI g b 3 = nI ss.length ∧ gR g b 0 = v + 1 ∧ v < gz g ∧ gK g v = 101 ∧ ρ v = r ∧ ss.length ≤ gN g v ∧ gN g v ≤ 5000 ∧ (∀ i s, ss[i]? = some s → gI g v i = s) ∧ ∀ s, s ∈ ss → okS s
theorem SbPe.sb {g : GS} {ρ : Nat → Nat} {r b v : Nat} {ss : List Int32} (h : SbPe g ρ r b v ss) : SbP g ρ r b ss := by
  obtain ⟨h1, h2, h3, h4, h5, h6, h7, h8, h9, h10, h11, h12, -⟩ := h
  exact ⟨h1, h2, h3, h4, h5, v, h6, h7, h8, h9, h10, h11, h12⟩
theorem SbPe.to {W : Nat → Prop} {g g' : GS} {ρ ρ' : Nat → Nat} {r b v : Nat} {ss : List Int32} (h : SbPe g ρ r b v ss) (hF : Fr W g g') (hA : Ag g ρ ρ') (hW : ∀ q, q < gz g → W q → ¬ q = b ∧ ¬ q = v) : SbPe g' ρ' r b v ss := by
  obtain ⟨h1, h2, h3, h4, h5, h6, h7, h8, h9, h10, h11, h12, h13⟩ := h
  have hb : ¬ W b := fun k => (hW b h3 k).1 rfl
  have hv : ¬ W v := fun k => (hW v h7 k).2 rfl
  exact ⟨by rw [hF.K h3, h1], by rw [hA b h3, h2], hF.lt h3, by rw [hF.I h3 hb, h4], by rw [hF.I h3 hb, h5], by rw [hF.R h3 hb, h6], hF.lt h7, by rw [hF.K h7, h8], by rw [hA v h7, h9], by rw [hF.N h7]; exact h10, by rw [hF.N h7]; exact h11, fun i s hs => by rw [hF.I h7 hv]; exact h12 i s hs, h13⟩
theorem okS_b {s : Int32} (h : okS s) : s.toInt8.toInt32.toInt8.toInt32 = s ∧ ¬ (255 : Int32) < s := by
  rcases h with rfl | rfl | rfl | rfl | rfl | rfl | rfl | rfl <;> decide
/-- a new text -/
theorem J14_init_l {g : GS} {ρ : Nat → Nat} {r : Nat} : ∃ g', J14_init (gz g) (nw_ g 13 4) = some (((), g'), 1, 16) ∧ SbPe g' (nr ρ g r) r (gz g) (gz g + 1) [] ∧ Fr no_ g g' ∧ gz g' = gz g + 2 ∧ gN g' (gz g + 1) = 16 := by
  have hz : gz (nw_ g 13 4) = gz g + 1 := rfl
  have hne : ¬ gz g = gz g + 1 := by omega
  refine ⟨pI (pR (nw_ (nw_ g 13 4) 101 16) (gz g) 0 (gz g + 1 + 1)) (gz g) 1 0, ?_, ⟨?_, nr_ge (Nat.le_refl _), ?_, ?_, ?_, ?_, ?_, ?_, nr_ge (by omega), ?_, ?_, fun i s hs => (by cases hs), fun s hs => (by cases hs)⟩, ?_, ?_, ?_⟩
  · unfold J14_init J13_init
    rw [if_neg (by decide), e_na (by decide), e_al, hz, e_wk (by rw [K_nw, hz, if_neg hne, K_nw, if_pos rfl]), e_b0, e_ca, e_b0]
    rfl
  · rw [K_pI, K_pR, K_nw, hz, if_neg hne, K_nw, if_pos rfl]
  · rw [z_pI, z_pR, z_nw, hz]; omega
  · rw [I_pI, if_pos ⟨rfl, rfl⟩]
  · rw [I_pI, if_neg (by rintro ⟨-, q⟩; cases q), I_pR, I_nw, hz, if_neg hne, I_nw, if_pos rfl]; rfl
  · rw [R_pI, R_pR, if_pos ⟨rfl, rfl⟩]
  · rw [z_pI, z_pR, z_nw, hz]; omega
  · rw [K_pI, K_pR, K_nw, if_pos hz.symm]
  · exact Nat.zero_le _
  · rw [N_pI, N_pR, N_nw, if_pos hz.symm]; omega
  · exact (((Fr.nw (W := no_)).trans (Fr.nw (W := no_)) (fun _ _ k => k)).trans (Fr.pR (W := fun q => q = gz g) rfl) (fun q hq k => by omega)).trans (Fr.pI (W := fun q => q = gz g) rfl) (fun q hq k => by omega)
  · rw [z_pI, z_pR, z_nw, hz]
  · rw [N_pI, N_pR, N_nw, if_pos hz.symm]
