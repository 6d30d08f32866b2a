/-! LAWS: chains, their texts (own work) -/
set_option maxRecDepth 100000
/-- the text b with its bytes in v -/
def SbPe (g : GS) (ρ : Nat → Nat) (r b v : Nat) (ss : List Int32) : Prop :=
  gK g b = 13 ∧ ρ b = r ∧ b < gz g ∧ gI g b 1 = 0 ∧ gI g b 3 = nI ss.length ∧ gR g b 0 = v + 1 ∧ v < gz g ∧ gK g v = 101 ∧ ρ v = r ∧ ss.length ≤ gN g v ∧ gN g v ≤ 5000 ∧ (∀ i s, ss[i]? = some s → gI g v i = s) ∧ (∀ s, s ∈ ss → okS s) ∧ ∀ i, -128 ≤ (gI g v i).toInt ∧ (gI g v i).toInt ≤ 127
theorem SbPe.sb {g : GS} {ρ : Nat → Nat} {r b v : Nat} {ss : List Int32} (h : SbPe g ρ r b v ss) : SbP g ρ r b ss := by
  obtain ⟨h1, h2, h3, h4, h5, h6, h7, h8, h9, h10, h11, h12, -⟩ := h
  exact ⟨h1, h2, h3, h4, h5, v, h6, h7, h8, h9, h10, h11, h12⟩
theorem SbPe.to {W : Nat → Prop} {g g' : GS} {ρ ρ' : Nat → Nat} {r b v : Nat} {ss : List Int32} (h : SbPe g ρ r b v ss) (hF : Fr W g g') (hA : Ag g ρ ρ') (hW : ∀ q, q < gz g → W q → ¬ q = b ∧ ¬ q = v) : SbPe g' ρ' r b v ss := by
  obtain ⟨h1, h2, h3, h4, h5, h6, h7, h8, h9, h10, h11, h12, h13⟩ := h
  have hb : ¬ W b := fun k => (hW b h3 k).1 rfl
  have hv : ¬ W v := fun k => (hW v h7 k).2 rfl
  exact ⟨by rw [hF.K h3, h1], by rw [hA b h3, h2], hF.lt h3, by rw [hF.I h3 hb, h4], by rw [hF.I h3 hb, h5], by rw [hF.R h3 hb, h6], hF.lt h7, by rw [hF.K h7, h8], by rw [hA v h7, h9], by rw [hF.N h7]; exact h10, by rw [hF.N h7]; exact h11, fun i s hs => by rw [hF.I h7 hv]; exact h12 i s hs, h13.1, fun i => by rw [hF.I h7 hv]; exact h13.2 i⟩
theorem okS_b {s : Int32} (h : okS s) : s.toInt8.toInt32.toInt8.toInt32 = s ∧ ¬ (255 : Int32) < s := by
  rcases h with rfl | rfl | rfl | rfl | rfl | rfl | rfl | rfl <;> decide
/-- a new text -/
theorem J14_init_l {g : GS} {ρ : Nat → Nat} {r : Nat} : ∃ g', J14_init (gz g) (nw_ g 13 4) = some (((), g'), 1, 16) ∧ SbPe g' (nr ρ g r) r (gz g) (gz g + 1) [] ∧ Fr no_ g g' ∧ gz g' = gz g + 2 ∧ gN g' (gz g + 1) = 16 := by
  have hz : gz (nw_ g 13 4) = gz g + 1 := rfl
  have hne : ¬ gz g = gz g + 1 := by omega
  refine ⟨pI (pR (nw_ (nw_ g 13 4) 101 16) (gz g) 0 (gz g + 1 + 1)) (gz g) 1 0, ?_, ⟨?_, nr_ge (Nat.le_refl _), ?_, ?_, ?_, ?_, ?_, ?_, nr_ge (by omega), ?_, ?_, fun i s hs => (by cases hs), fun s hs => (by cases hs), fun i => ?_⟩, ?_, ?_, ?_⟩
  · unfold J14_init J13_init
    rw [if_neg (by decide), e_na (by decide), e_al, hz, e_wk (by rw [K_nw, hz, if_neg hne, K_nw, if_pos rfl]), e_b0, e_ca, e_b0]
    rfl
  · rw [K_pI, K_pR, K_nw, hz, if_neg hne, K_nw, if_pos rfl]
  · rw [z_pI, z_pR, z_nw, hz]; omega
  · rw [I_pI, if_pos ⟨rfl, rfl⟩]
  · rw [I_pI, if_neg (by rintro ⟨-, q⟩; cases q), I_pR, I_nw, hz, if_neg hne, I_nw, if_pos rfl]; rfl
  · rw [R_pI, R_pR, if_pos ⟨rfl, rfl⟩]
  · rw [z_pI, z_pR, z_nw, hz]; omega
  · rw [K_pI, K_pR, K_nw, if_pos hz.symm]
  · exact Nat.zero_le _
  · rw [N_pI, N_pR, N_nw, if_pos hz.symm]; omega
  · rw [I_pI, if_neg (by rintro ⟨q, -⟩; omega), I_pR, I_nw, if_pos hz.symm]; decide
  · exact (((Fr.nw (W := no_)).trans (Fr.nw (W := no_)) (fun _ _ k => k)).trans (Fr.pR (W := fun q => q = gz g) rfl) (fun q hq k => by omega)).trans (Fr.pI (W := fun q => q = gz g) rfl) (fun q hq k => by omega)
  · rw [z_pI, z_pR, z_nw, hz]
  · rw [N_pI, N_pR, N_nw, if_pos hz.symm]
theorem fits_b {v : Int32} (h : -128 ≤ v.toInt ∧ v.toInt ≤ 127) : fits .byte (.int v) = true := by
  show (decide (-128 ≤ v) && decide (v ≤ 127)) = true
  have k1 : ((-128 : Int32)).toInt = -128 := by decide
  have k2 : ((127 : Int32)).toInt = 127 := by decide
  rw [Bool.and_eq_true, decide_eq_true_iff, decide_eq_true_iff, i_le, i_le, k1, k2]
  exact h
theorem okS_rg {s : Int32} (h : okS s) : -128 ≤ s.toInt ∧ s.toInt ≤ 127 := by
  rcases h with rfl | rfl | rfl | rfl | rfl | rfl | rfl | rfl <;> decide
/-- the room is made -/
theorem J13_ensure_l {g : GS} {ρ : Nat → Nat} {r b v : Nat} {ss : List Int32} (h : SbPe g ρ r b v ss) (hl : ss.length ≤ 1500) :
    ∃ g' v' dc ds, J13_ensureCapacityInternal b (nI (ss.length + 1)) g = some (((), g'), dc, ds) ∧ SbPe g' (nr ρ g r) r b v' ss ∧ ss.length < gN g' v' ∧ Fr (fun q => q = b) g g' ∧ dc ≤ 1 ∧ ds + 2 * gN g v ≤ 2 * gN g' v' ∧ (gN g' v' ≤ gN g v ∨ gN g' v' ≤ 2 * ss.length + 2) ∧ (v' = v ∨ v' = gz g) := by
  obtain ⟨h1, h2, h3, h4, h5, h6, h7, h8, h9, h10, h11, h12, h13, h14⟩ := id h
  have hs0 : Int32.ofNat (gN g v) >>> ((0 : Int32) &&& 31) = nI (gN g v) := by
    rw [show ((0 : Int32) &&& 31) = 0 from rfl, Int32.shiftRight_zero]; rfl
  have hsub : nI (ss.length + 1) - nI (gN g v) ≤ 0 ↔ ss.length + 1 ≤ gN g v := by
    rw [i_le, i_sub (by rw [i_n (by omega), i_n (by omega)]; omega) (by rw [i_n (by omega), i_n (by omega)]; omega), i_n (by omega), i_n (by omega), k_0]
    omega
  unfold J13_ensureCapacityInternal
  rw [e_wk h1, h6, e_nn, e_rk (by rw [h8]), h4, hs0]
  by_cases hc : ss.length + 1 ≤ gN g v
  · rw [if_pos (hsub.mpr hc)]
    exact ⟨g, v, 0, 0, rfl, h.to (W := no_) Fr.rf nr_ag (fun _ _ k => k.elim), by omega, Fr.rf, by omega, by omega, Or.inl (Nat.le_refl _), Or.inl rfl⟩
  · have hcap : gN g v = ss.length := by omega
    have hnl : J15_newLength (nI (gN g v)) (nI (ss.length + 1) - nI (gN g v)) (nI (gN g v) + 2) = some (nI (2 * ss.length + 2)) := by
      have e1 : nI (ss.length + 1) - nI (gN g v) = nI 1 := by
        rw [hcap, i_eq, i_sub (by rw [i_n (by omega), i_n (by omega)]; omega) (by rw [i_n (by omega), i_n (by omega)]; omega), i_n (by omega), i_n (by omega), i_n (by omega)]
        omega
      have e2 : nI (gN g v) + 2 = nI (ss.length + 2) := by rw [hcap]; exact nI_add ss.length 2
      have e3 : jmax_ (nI 1) (nI (ss.length + 2)) = nI (ss.length + 2) := by
        unfold jmax_
        rw [if_pos (nI_lt (by omega) (by omega))]
      unfold J15_newLength
      rw [e1, e2, e3, hcap, nI_add, if_neg (nI_nle (by omega) (by omega)), if_neg, show ss.length + (ss.length + 2) = 2 * ss.length + 2 by omega]
      rw [i_lt, i_n (by omega)]
      show ¬ (2147483639 : Int) < _
      omega
    have hmaxv : ¬ nI (2 * ss.length + 2) = 2147483647 := by
      rw [i_eq, i_n (by omega)]
      show ¬ (_ : Int) = 2147483647
      omega
    have hsh : ∀ n : Nat, nI n >>> ((0 : Int32) &&& 31) = nI n := fun n => by rw [show ((0 : Int32) &&& 31) = 0 from rfl, Int32.shiftRight_zero]
    have hshl : ∀ n : Nat, nI n <<< ((0 : Int32) &&& 31) = nI n := fun n => by rw [show ((0 : Int32) &&& 31) = 0 from rfl, Int32.shiftLeft_zero]
    have h2l : (2 : Int32) <<< ((0 : Int32) &&& 31) = 2 := by decide
    have hnc : J13_newCapacity b (nI (ss.length + 1)) g = some ((nI (2 * ss.length + 2), g), 0, 0) := by
      unfold J13_newCapacity
      rw [e_wk h1, h6, e_nn, e_rk (by rw [h8]), h4, hshl, h2l]
      show ob_ (J15_newLength (nI (gN g v)) (nI (ss.length + 1) - nI (gN g v)) (nI (gN g v) + 2)) _ = _
      rw [hnl, e_ob, if_neg hmaxv, hsh]
    have hvz : ¬ v = gz g := by omega
    have hbz : ¬ b = gz g := by omega
    obtain ⟨g1, hg1⟩ : ∃ g1, g1 = nw_ g 101 (2 * ss.length + 2) := ⟨_, rfl⟩
    have F1 : Fr no_ g g1 := by rw [hg1]; exact Fr.nw
    have kv1 : gK g1 v = 101 := by rw [F1.K h7, h8]
    have nv1 : gN g1 v = ss.length := by rw [F1.N h7, hcap]
    have kz1 : gK g1 (gz g) = 101 := by rw [hg1, K_nw, if_pos rfl]
    have nz1 : gN g1 (gz g) = 2 * ss.length + 2 := by rw [hg1, N_nw, if_pos rfl]
    have hmin : jmin_ (Int32.ofNat (gN g1 v)) (nI (2 * ss.length + 2)) = nI ss.length := by
      rw [nv1, show Int32.ofNat ss.length = nI ss.length from rfl, jmin_l (by omega) (by omega), Nat.min_eq_left (by omega)]
    have hacB : acB_ g1 v 0 (gz g) 0 (nI ss.length) = true := by
      unfold acB_
      rw [Bool.and_eq_true]
      refine ⟨decide_eq_true ⟨by decide, by decide, nI_pos (by omega), ?_, ?_⟩, ?_⟩
      · rw [nI_clamp (by omega), nv1]; show 0 + ss.length ≤ _; omega
      · rw [nI_clamp (by omega), nz1]; show 0 + ss.length ≤ _; omega
      · rw [List.all_eq_true]
        intro i _
        refine fits_b ?_
        rw [F1.I h7 (fun k => k)]
        exact h14 _
    have hcopy : J16_copyOf_3 v (nI (2 * ss.length + 2)) g = some ((gz g, cI_ g1 v 0 (gz g) 0 ss.length), 1, 2 * ss.length + 2) := by
      unfold J16_copyOf_3
      rw [e_rk (by rw [h8]), hcap, show Int32.ofNat ss.length = nI ss.length from rfl, if_neg (fun k => by have := nI_inj (by omega) (by omega) k; omega), e_na (by rintro (k | k); exact nI_pos (by omega) k; rw [nI_clamp (by omega)] at k; omega), e_al, nI_clamp (by omega), ← hg1, e_rk (by rw [kv1]), hmin, hacB, e_gd, nI_clamp (by omega), e_b0]
      rfl
    obtain ⟨g2, hg2⟩ : ∃ g2, g2 = pR (cI_ g1 v 0 (gz g) 0 ss.length) b 0 (gz g + 1) := ⟨_, rfl⟩
    have F2 : Fr (fun q => q = b) g g2 := by
      rw [hg2]
      exact ((F1.mono (fun _ _ k => k.elim)).trans (Fr.cI (W := fun q => q = gz g) rfl) (fun q hq k => by omega)).trans (Fr.pR (W := fun q => q = b) rfl) (fun _ _ k => k)
    have I2 : ∀ i, gI g2 (gz g) i = if i < ss.length then gI g v i else 0 := fun i => by
      rw [hg2, I_pR, I_cI]
      by_cases q : i < ss.length
      · rw [if_pos ⟨rfl, by omega, by omega⟩, if_pos q, F1.I h7 (fun k => k)]
        congr 1
        omega
      · rw [if_neg (by rintro ⟨-, -, k⟩; omega), if_neg q, hg1, I_nw, if_pos rfl]
    rw [if_neg (fun k => hc (hsub.mp k)), e_nn, hnc, e_ca, e_wk h1, h4, hshl, hcopy, e_ca, e_wk (by rw [K_cI, F1.K h3, h1]), ← hg2, bp_0, e_b0]
    refine ⟨g2, gz g, 1, 2 * ss.length + 2, rfl, ⟨by rw [F2.K h3, h1], by rw [nr_lt h3, h2], F2.lt h3, ?_, ?_, ?_, ?_, ?_, nr_ge (Nat.le_refl _), ?_, ?_, fun i s hs => ?_, h13, fun i => ?_⟩, ?_, F2, Nat.le_refl _, ?_, Or.inr ?_, Or.inr rfl⟩
    · rw [hg2, I_pR, I_cI, if_neg (by rintro ⟨q, -⟩; exact hbz q), F1.I h3 (fun k => k), h4]
    · rw [hg2, I_pR, I_cI, if_neg (by rintro ⟨q, -⟩; exact hbz q), F1.I h3 (fun k => k), h5]
    · rw [hg2, R_pR, if_pos ⟨rfl, rfl⟩]
    · rw [hg2, z_pR, z_cI, hg1, z_nw]; omega
    · rw [hg2, K_pR, K_cI, kz1]
    · rw [hg2, N_pR, N_cI, nz1]; omega
    · rw [hg2, N_pR, N_cI, nz1]; omega
    · have hi := (List.getElem?_eq_some_iff.mp hs).1
      rw [I2, if_pos hi]
      exact h12 i s hs
    · rw [I2]
      by_cases q : i < ss.length
      · rw [if_pos q]; exact h14 i
      · rw [if_neg q]; decide
    · rw [hg2, N_pR, N_cI, nz1]; omega
    · rw [hg2, N_pR, N_cI, nz1]; omega
    · rw [hg2, N_pR, N_cI, nz1]; exact Nat.le_refl _
/-- append: one character more -/
theorem J14_append_l {g : GS} {ρ : Nat → Nat} {r b v : Nat} {c : Int32} {ss : List Int32} (h : SbPe g ρ r b v ss) (hl : ss.length ≤ 1500) (hc : okS c) :
    ∃ g' v' dc ds, J14_append b c g = some ((b, g'), dc, ds) ∧ SbPe g' (nr ρ g r) r b v' (ss ++ [c]) ∧ Fr (fun q => q = b ∨ q = v) g g' ∧ dc ≤ 1 ∧ ds + 2 * gN g v ≤ 2 * gN g' v' ∧ (gN g' v' ≤ gN g v ∨ gN g' v' ≤ 2 * ss.length + 2) := by
  obtain ⟨g1, v1, dc, ds, a1, a2, a3, a4, a5, a6, a7, a8⟩ := J13_ensure_l h hl
  obtain ⟨h1, h2, h3, h4, h5, h6, h7, h8, h9, h10, h11, h12, h13, h14⟩ := a2
  have hk : gK g b = 13 := h.1
  have h5g : gI g b 3 = nI ss.length := h.2.2.2.2.1
  have hbv : ¬ b = v1 := by intro q; rw [q, h8] at h1; cases h1
  obtain ⟨o1, o2⟩ := okS_b hc
  refine ⟨pI (pI g1 b 3 (nI (ss.length + 1))) v1 ss.length c, v1, 0 + 0 + dc, 0 + 0 + ds, ?_, ⟨h1, h2, h3, ?_, ?_, h6, h7, h8, h9, ?_, h11, fun i s hs => ?_, fun s hs => ?_, fun i => ?_⟩, ?_, by omega, by show 0 + 0 + ds + 2 * gN g v ≤ 2 * gN g1 v1; omega, a7⟩
  · unfold J14_append J13_append J13_isLatin1 J9_canEncode_2
    rw [e_wk hk, e_wk hk, h5g, nI_1, a1, e_ca, e_wk h1, if_neg (by decide), e_wk h1, h4, if_pos rfl, e_ob, if_neg nn01, if_neg o2, e_ob, if_neg nn01, h6, e_nn, h5, nI_1, e_wk (by exact h8), N_pI, e_inN a3 (by omega), nI_clamp (by omega), o1, e_b0, e_ca, e_b0]
    simp only [Nat.zero_add]
  · rw [I_pI, if_neg (by rintro ⟨q, -⟩; exact hbv q), I_pI, if_neg (by rintro ⟨-, q⟩; cases q), h4]
  · rw [I_pI, if_neg (by rintro ⟨q, -⟩; exact hbv q), I_pI, if_pos ⟨rfl, rfl⟩]
    simp
  · show (ss ++ [c]).length ≤ gN g1 v1
    simp
    omega
  · rw [I_pI, I_pI]
    rcases Nat.lt_trichotomy i ss.length with q | q | q
    · rw [List.getElem?_append_left q] at hs
      rw [if_neg (by rintro ⟨-, k⟩; omega), if_neg (by rintro ⟨k, -⟩; exact hbv k.symm)]
      exact h12 i s hs
    · subst q
      simp at hs
      rw [if_pos ⟨rfl, rfl⟩]
      exact hs
    · rw [List.getElem?_eq_none (by simp; omega)] at hs
      cases hs
  · rcases List.mem_append.mp hs with q | q
    · exact h13 s q
    · rw [List.mem_singleton.mp q]; exact hc
  · rw [I_pI, I_pI]
    by_cases q : v1 = v1 ∧ i = ss.length
    · rw [if_pos q]; exact okS_rg hc
    · rw [if_neg q, if_neg (by rintro ⟨k, -⟩; exact hbv k.symm)]; exact h14 i
  · refine (a4.mono (fun _ _ k => Or.inl k)).trans ((Fr.pI (W := fun q => q = b ∨ q = v1) (Or.inl rfl)).trans (Fr.pI (W := fun q => q = b ∨ q = v1) (Or.inr rfl)) (fun _ _ k => k)) (fun q hq k => ?_)
    rcases k with k | k
    · exact Or.inl k
    · rcases a8 with e | e
      · rw [k, e]; exact Or.inr rfl
      · omega
