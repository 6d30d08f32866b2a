/-! LAWS: lists of Integers, remove, set, clear, copies (own work) -/
set_option maxRecDepth 100000
/-- the two empty arrays -/
def EnE (g : GS) (ρ : Nat → Nat) : Prop := (∃ d, gS g 1 = d + 1 ∧ d < gz g ∧ gK g d = 1103 ∧ gN g d = 0 ∧ ρ d = 0) ∧ ∃ d, gS g 2 = d + 1 ∧ d < gz g ∧ gK g d = 1103 ∧ gN g d = 0 ∧ ρ d = 0
theorem EnE.to {W : Nat → Prop} {g g' : GS} {ρ ρ' : Nat → Nat} (h : EnE g ρ) (hF : Fr W g g') (hA : Ag g ρ ρ') : EnE g' ρ' := by
  obtain ⟨⟨d, a1, a2, a3, a4, a5⟩, ⟨f, b1, b2, b3, b4, b5⟩⟩ := h
  exact ⟨⟨d, by rw [hF.S, a1], hF.lt a2, by rw [hF.K a2, a3], by rw [hF.N a2, a4], by rw [hA d a2, a5]⟩, ⟨f, by rw [hF.S, b1], hF.lt b2, by rw [hF.K b2, b3], by rw [hF.N b2, b4], by rw [hA f b2, b5]⟩⟩
theorem EnE.s1 {g : GS} {ρ : Nat → Nat} (h : EnE g ρ) : ∃ d, gS g 1 = d + 1 := by
  obtain ⟨⟨d, a, -⟩, -⟩ := h
  exact ⟨d, a⟩
/-- a new list -/
theorem J2_init_l {g : GS} {ρ : Nat → Nat} (hE : EnE g ρ) (r : Nat) : ∃ g' e, J2_init (gz g) (nw_ g 12 3) = some g' ∧ LiPe g' (nr ρ g r) r (gz g) e [] ∧ Fr no_ g g' ∧ gz g' = gz g + 1 ∧ gN g' e = 0 ∧ gK g' e = 1103 := by
  obtain ⟨⟨d, a1, a2, a3, a4, a5⟩, -⟩ := hE
  have hne : d ≠ gz g := by omega
  refine ⟨pR (pI (nw_ g 12 3) (gz g) 0 0) (gz g) 1 (d + 1), d, ?_, ⟨?_, nr_ge (Nat.le_refl _), ?_, ?_, ?_, ?_, ?_, ?_, ?_, ?_⟩, ?_, rfl, ?_, ?_⟩
  · unfold J2_init J1_init J0_init
    rw [e_ob, e_wk (by rw [K_nw, if_pos rfl]), e_ob, S_pI, S_nw, a1, e_nn, e_wk (by rw [K_pI, K_nw, if_pos rfl])]
  · rw [K_pR, K_pI, K_nw, if_pos rfl]
  · show gz g < gz g + 1; omega
  · rw [I_pR, I_pI, if_neg (by rintro ⟨-, k⟩; cases k), I_nw, if_pos rfl]; rfl
  · rw [R_pR, if_pos ⟨rfl, rfl⟩]
  · show d < gz g + 1; omega
  · exact Or.inr ⟨by rw [K_pR, K_pI, K_nw, if_neg hne, a3], by rw [nr_lt a2, a5], by rw [N_pR, N_pI, N_nw, if_neg hne, a4]⟩
  · exact Nat.zero_le _
  · rw [N_pR, N_pI, N_nw, if_neg hne, a4]; omega
  · intro i y hy; cases hy
  · refine (Fr.nw (W := no_)).trans ((Fr.pI (W := fun q => q = gz g) rfl).trans (Fr.pR (W := fun q => q = gz g) rfl) (fun _ _ k => k)) (fun q hq k => ?_)
    omega
  · rw [N_pR, N_pI, N_nw, if_neg hne, a4]
  · rw [K_pR, K_pI, K_nw, if_neg hne, a3]
/-- a list that copies another -/
theorem J2_init2_l {g : GS} {ρ : Nat → Nat} {r rs u b e : Nat} {xs : List Nat} (hE : EnE g ρ) (hu : gK g u = 12) (hur : ρ u = r) (huz : u < gz g) (h : LiPe g ρ rs b e xs) (hub : u ≠ b) :
    ∃ g' e', J2_init_2 u b g = some (((), g'), 1, xs.length) ∧ LiPe g' (nr ρ g r) r u e' xs ∧ Fr (fun q => q = u) g g' ∧ gz g' = gz g + 1 := by
  obtain ⟨-, ⟨d, a1, a2, a3, a4, a5⟩⟩ := hE
  obtain ⟨h1, h2, h3, h4, h5, h6, h7, h8, h9, h10⟩ := h
  have hk : gK g e % 1000 = 103 := by rcases h7 with ⟨k, _⟩ | ⟨k, _⟩ <;> rw [k]
  have hF0 : Fr (fun q => q = u) g (pI g u 0 0) := Fr.pI rfl
  obtain ⟨g1, c1, c2, c3, c4, c5, c6⟩ := J16_copyOf_l (g := pI g u 0 0) (e := e) (n := xs.length) hk h6 h9 (by omega) (fun i hi => by
    have hi' : i < xs.length := by omega
    obtain ⟨k1, k2, k3⟩ := h10 i _ (List.getElem?_eq_getElem hi')
    exact Or.inr ⟨_, k1, k2, k3⟩)
  have hz0 : gz (pI g u 0 0) = gz g := rfl
  rw [hz0] at c1 c3 c4 c5 c6
  have hI2 : gI (pI g u 0 0) b 2 = nI xs.length := by rw [I_pI, if_neg (by rintro ⟨-, k⟩; cases k), h4]
  have hu1 : gK g1 u = 12 := by rw [c2.K (show u < gz (pI g u 0 0) from huz)]; exact hu
  have hb1 : gK g1 b = 12 := by rw [c2.K (show b < gz (pI g u 0 0) from h3)]; exact h1
  have hs1 : gS g1 2 = d + 1 := by rw [c2.S]; exact a1
  have hta : J2_toArray b (pI g u 0 0) = some ((gz g, g1), 1, xs.length) := by
    unfold J2_toArray
    rw [e_wk (by exact h1), R_pI, h5, e_nn, hI2, c1, e_ca, e_b0]
  by_cases h0 : xs.length = 0
  · have hx : xs = [] := List.length_eq_zero_iff.mp h0
    refine ⟨pR (pI g1 u 2 (Int32.ofNat (gN g1 (gz g)))) u 1 (d + 1), d, ?_, ⟨hu1, by rw [nr_lt huz, hur], ?_, ?_, ?_, ?_, ?_, ?_, ?_, ?_⟩, ?_, by rw [z_pR, z_pI, c3]⟩
    · unfold J2_init_2 J1_init J0_init
      rw [e_ob, e_wk hu, e_ob, e_wk (by exact h1), hta, e_ca, e_rk (by rw [c4]), e_wk hu1, c5, if_pos (by rw [h0]; rfl), S_pI, hs1, e_nn, e_b0]
    · rw [z_pR, z_pI, c3]; omega
    · rw [I_pR, I_pI, if_pos ⟨rfl, rfl⟩, c5]; rfl
    · rw [R_pR, if_pos ⟨rfl, rfl⟩]
    · rw [z_pR, z_pI, c3]; omega
    · refine Or.inr ⟨?_, ?_, ?_⟩
      · rw [K_pR, K_pI, c2.K (show d < gz (pI g u 0 0) from a2)]; exact a3
      · rw [nr_lt a2, a5]
      · rw [N_pR, N_pI, c2.N (show d < gz (pI g u 0 0) from a2)]; exact a4
    · rw [h0]; omega
    · rw [N_pR, N_pI, c2.N (show d < gz (pI g u 0 0) from a2)]; show gN g d ≤ _; omega
    · intro i y hy
      rw [hx] at hy
      cases hy
    · exact (hF0.trans c2 (fun _ _ k => k.elim)).trans ((Fr.pI (W := fun q => q = u) rfl).trans (Fr.pR (W := fun q => q = u) rfl) (fun _ _ k => k)) (fun _ _ k => k)
  · have hne : gz g ≠ u := by omega
    refine ⟨pR (pI g1 u 2 (Int32.ofNat (gN g1 (gz g)))) u 1 (gz g + 1), gz g, ?_, ⟨hu1, by rw [nr_lt huz, hur], ?_, ?_, ?_, ?_, ?_, ?_, ?_, ?_⟩, ?_, by rw [z_pR, z_pI, c3]⟩
    · unfold J2_init_2 J1_init J0_init
      rw [e_ob, e_wk hu, e_ob, e_wk (by exact h1), hta, e_ca, e_rk (by rw [c4]), e_wk hu1, c5, if_neg (show ¬ Int32.ofNat xs.length = 0 from nI_ne0 (by omega) (by omega)), e_wk (by rw [K_pI]; exact hb1), if_pos rfl, e_b0]
    · rw [z_pR, z_pI, c3]; omega
    · rw [I_pR, I_pI, if_pos ⟨rfl, rfl⟩, c5]; rfl
    · rw [R_pR, if_pos ⟨rfl, rfl⟩]
    · rw [z_pR, z_pI, c3]; omega
    · refine Or.inl ⟨?_, nr_ge (Nat.le_refl _)⟩
      rw [K_pR, K_pI, c4]
    · rw [N_pR, N_pI, c5]; omega
    · rw [N_pR, N_pI, c5]; omega
    · intro i y hy
      have hi := (List.getElem?_eq_some_iff.mp hy).1
      obtain ⟨k1, k2, k3⟩ := h10 i y hy
      refine ⟨?_, ?_, ?_⟩
      · rw [R_pR, if_neg (by rintro ⟨k, -⟩; exact hne k), R_pI, c6 i (by show i < min (gN g e) _; omega)]
        exact k1
      · rw [z_pR, z_pI, c3]; omega
      · rw [K_pR, K_pI, c2.K (show y < gz (pI g u 0 0) from k2)]; exact k3
    · exact (hF0.trans c2 (fun _ _ k => k.elim)).trans ((Fr.pI (W := fun q => q = u) rfl).trans (Fr.pR (W := fun q => q = u) rfl) (fun _ _ k => k)) (fun _ _ k => k)
/-- set -/
theorem J2_set_l {g : GS} {ρ : Nat → Nat} {r b e i y x : Nat} {xs : List Nat} (h : LiPe g ρ r b e xs) (hy : xs[i]? = some y) (hx : x < gz g) (hs : g_sto (gK g x % 1000) = true) :
    ∃ g', J2_set b (nI i) x g = some (y, g') ∧ LiPe g' ρ r b e (xs.set i x) ∧ Fr (fun q => q = e) g g' ∧ gK g e = 103 ∧ ρ e = r ∧ gz g' = gz g := by
  have hg := J2_get_l ⟨e, h⟩ hy
  have hi := (List.getElem?_eq_some_iff.mp hy).1
  obtain ⟨h1, h2, h3, h4, h5, h6, h7, h8, h9, h10⟩ := h
  have hke : gK g e = 103 ∧ ρ e = r := by
    rcases h7 with k | ⟨k, _, k3⟩
    · exact k
    · omega
  have hbe : b ≠ e := by intro k; rw [k, hke.1] at h1; omega
  refine ⟨pR g e i (x + 1), ?_, ⟨h1, h2, h3, ?_, ?_, h6, h7, ?_, h9, fun j z hz => ?_⟩, Fr.pR rfl, hke.1, hke.2, rfl⟩
  · unfold J2_get at hg
    rw [e_wk h1, h4, J17_checkIndex_l hi (by omega), e_ob] at hg
    have hg' : J2_elementData b (nI i) g = some y := by
      cases hq : J2_elementData b (nI i) g with
      | none => rw [hq] at hg; cases hg
      | some v => rw [hq] at hg; exact hg
    unfold J2_set
    rw [e_wk h1, h4, J17_checkIndex_l hi (by omega), e_ob, hg', e_ob, h5, e_nn, e_wk hke.1, e_inN (by omega) (by omega), hs, e_gd, nI_clamp (by omega)]
  · rw [I_pR, List.length_set]; exact h4
  · rw [R_pR, if_neg (by rintro ⟨k, -⟩; exact hbe k)]; exact h5
  · rw [List.length_set]; exact h8
  · rw [R_pR]
    rw [List.getElem?_set] at hz
    by_cases hj : i = j
    · subst hj
      rw [if_pos rfl, if_pos hi] at hz
      cases hz
      rw [if_pos ⟨rfl, rfl⟩]
      exact ⟨rfl, hx, hs⟩
    · rw [if_neg hj] at hz
      rw [if_neg (by rintro ⟨-, k⟩; exact hj k.symm)]
      exact h10 j z hz
theorem acR_g {g : GS} {a b n sp dp : Nat} (h1 : sp + n ≤ gN g a) (h2 : dp + n ≤ gN g b) (hn : n < 2 ^ 31) (hs : sp < 2 ^ 31) (hd : dp < 2 ^ 31) (h : ∀ i, i < n → gR g a (sp + i) = 0 ∨ ∃ y, gR g a (sp + i) = y + 1 ∧ g_sto (gK g y % 1000) = true) : acR_ g a (nI sp) b (nI dp) (nI n) = true := by
  unfold acR_
  rw [Bool.and_eq_true]
  refine ⟨decide_eq_true ⟨nI_pos hs, nI_pos hd, nI_pos hn, ?_, ?_⟩, ?_⟩
  · rw [nI_clamp hn, nI_clamp hs]; exact h1
  · rw [nI_clamp hn, nI_clamp hd]; exact h2
  · rw [List.all_eq_true]
    intro i hi
    rw [List.mem_range, nI_clamp hn] at hi
    rw [nI_clamp hs]
    unfold eo_
    rcases h i hi with k | ⟨y, k1, k2⟩
    · rw [k]; rfl
    · rw [k1, Nat.add_sub_cancel, k2, Bool.or_true]
/-- remove -/
theorem J2_remove_l {g : GS} {ρ : Nat → Nat} {r b e i y : Nat} {xs : List Nat} (h : LiPe g ρ r b e xs) (hy : xs[i]? = some y) :
    ∃ g', J2_remove b (nI i) g = some (y, g') ∧ LiPe g' ρ r b e (xs.eraseIdx i) ∧ Fr (fun q => q = b ∨ q = e) g g' ∧ gK g e = 103 ∧ ρ e = r ∧ gz g' = gz g := by
  have hi := (List.getElem?_eq_some_iff.mp hy).1
  obtain ⟨h1, h2, h3, h4, h5, h6, h7, h8, h9, h10⟩ := h
  have hke : gK g e = 103 ∧ ρ e = r := by
    rcases h7 with k | ⟨k, _, k3⟩
    · exact k
    · omega
  have hbe : b ≠ e := by intro k; rw [k, hke.1] at h1; omega
  have hk : gK g e % 1000 = 103 := by rw [hke.1]
  have hI2 : gI (pI g b 0 (gI g b 0 + 1)) b 2 = nI xs.length := by rw [I_pI, if_neg (by rintro ⟨-, k⟩; cases k), h4]
  have hpred : nI xs.length - 1 = nI (xs.length - 1) := by
    obtain ⟨n, hn⟩ : ∃ n, xs.length = n + 1 := ⟨xs.length - 1, by omega⟩
    rw [hn, nI_pred]; rfl
  have hlen : (xs.eraseIdx i).length = xs.length - 1 := by rw [List.length_eraseIdx, if_pos hi]
  have main : ∀ g1 : GS, gK g1 = gK g → gN g1 = gN g → (∀ d j, gI g1 d j = if d = b ∧ j = 0 then gI g b 0 + 1 else gI g d j) → (∀ d, d ≠ e → ∀ j, gR g1 d j = gR g d j) → gz g1 = gz g → gS g1 = gS g → (∀ j z, (xs.eraseIdx i)[j]? = some z → gR g1 e j = z + 1) →
      ∃ g', J2_fastRemove_j34 b e (nI (xs.length - 1)) g1 = some g' ∧ LiPe g' ρ r b e (xs.eraseIdx i) ∧ Fr (fun q => q = b ∨ q = e) g g' ∧ gz g' = gz g := by
    intro g1 eK eN eI eR ez eS hel
    refine ⟨pR (pI g1 b 2 (nI (xs.length - 1))) e (xs.length - 1) 0, ?_, ⟨?_, h2, ?_, ?_, ?_, ?_, ?_, ?_, ?_, ?_⟩, ?_, ?_⟩
    · unfold J2_fastRemove_j34
      rw [e_wk (by rw [eK]; exact h1), e_wk (by rw [K_pI, eK]; exact hke.1), e_inN (by rw [N_pI, eN]; omega) (by rw [N_pI, eN]; omega), nI_clamp (by omega)]
    · rw [K_pR, K_pI, eK]; exact h1
    · rw [z_pR, z_pI, ez]; exact h3
    · rw [I_pR, I_pI, if_pos ⟨rfl, rfl⟩, hlen]
    · rw [R_pR, if_neg (by rintro ⟨k, -⟩; exact hbe k), R_pI, eR b hbe]; exact h5
    · rw [z_pR, z_pI, ez]; exact h6
    · rw [K_pR, K_pI, eK, N_pR, N_pI, eN]; exact h7
    · rw [N_pR, N_pI, eN, hlen]; omega
    · rw [N_pR, N_pI, eN]; exact h9
    · intro j z hz
      have hj := (List.getElem?_eq_some_iff.mp hz).1
      rw [hlen] at hj
      have hmem : z < gz g ∧ g_sto (gK g z % 1000) = true := by
        rw [List.getElem?_eraseIdx] at hz
        split at hz
        · exact (h10 _ _ hz).2
        · exact (h10 _ _ hz).2
      refine ⟨?_, ?_, ?_⟩
      · rw [R_pR, if_neg (by rintro ⟨-, k⟩; omega), R_pI, hel j z hz]
      · rw [z_pR, z_pI, ez]; exact hmem.1
      · rw [K_pR, K_pI, eK]; exact hmem.2
    · refine ⟨by rw [z_pR, z_pI, ez]; exact Nat.le_refl _, by rw [S_pR, S_pI, eS], fun q _ => by rw [K_pR, K_pI, eK, N_pR, N_pI, eN]; exact ⟨rfl, rfl⟩, fun q hq hw => ⟨fun j => ?_, fun j => ?_⟩⟩
      · have hqb : q ≠ b := fun k => hw (Or.inl k)
        rw [I_pR, I_pI, if_neg (by rintro ⟨k, -⟩; exact hqb k), eI, if_neg (by rintro ⟨k, -⟩; exact hqb k)]
      · have hqe : q ≠ e := fun k => hw (Or.inr k)
        rw [R_pR, if_neg (by rintro ⟨k, -⟩; exact hqe k), R_pI, eR q hqe]
    · rw [z_pR, z_pI, ez]
  have hgo : ∃ g', J2_fastRemove b e (nI i) g = some g' ∧ LiPe g' ρ r b e (xs.eraseIdx i) ∧ Fr (fun q => q = b ∨ q = e) g g' ∧ gz g' = gz g := by
    unfold J2_fastRemove
    rw [e_wk h1, hI2, hpred]
    by_cases hl : xs.length - 1 ≤ i
    · rw [if_pos (nI_le hl (by omega))]
      refine main _ rfl rfl (fun d j => by rw [I_pI]) (fun _ _ _ => rfl) rfl rfl (fun j z hz => ?_)
      have hj := (List.getElem?_eq_some_iff.mp hz).1
      rw [hlen] at hj
      rw [List.getElem?_eraseIdx, if_pos (by omega)] at hz
      exact (h10 j z hz).1
    · have hs1 : nI i + 1 = nI (i + 1) := nI_1 i
      have hs2 : nI (xs.length - 1) - nI i = nI (xs.length - 1 - i) := by
        rw [i_eq, i_sub (by rw [i_n (by omega), i_n (by omega)]; omega) (by rw [i_n (by omega), i_n (by omega)]; omega), i_n (by omega), i_n (by omega), i_n (by omega)]; omega
      rw [if_neg (by rw [nI_leI (by omega) (by omega)]; exact hl), e_rk (by exact hk), e_wk (by exact hke.1), hs1, hs2, acR_g (by show _ ≤ gN g e; omega) (by show _ ≤ gN g e; omega) (by omega) (by omega) (by omega) ?_, e_gd, nI_clamp (by omega), nI_clamp (by omega), nI_clamp (by omega)]
      · refine main _ rfl rfl (fun d j => by rw [I_cR, I_pI]) (fun d hd j => ?_) rfl rfl (fun j z hz => ?_)
        · rw [R_cR, if_neg (by rintro ⟨k, -⟩; exact hd k)]; rfl
        · have hj := (List.getElem?_eq_some_iff.mp hz).1
          rw [hlen] at hj
          rw [R_cR]
          rw [List.getElem?_eraseIdx] at hz
          by_cases hji : j < i
          · rw [if_pos hji] at hz
            rw [if_neg (by rintro ⟨-, k, -⟩; omega)]
            exact (h10 j z hz).1
          · rw [if_neg hji] at hz
            rw [if_pos ⟨rfl, by omega, by omega⟩]
            have e1 : i + 1 + (j - i) = j + 1 := by omega
            rw [e1]
            exact (h10 (j + 1) z hz).1
      · intro j hj
        have hj' : i + 1 + j < xs.length := by omega
        obtain ⟨k1, k2, k3⟩ := h10 (i + 1 + j) _ (List.getElem?_eq_getElem hj')
        exact Or.inr ⟨_, k1, k3⟩
  obtain ⟨g', m1, m2, m3, m4⟩ := hgo
  refine ⟨g', ?_, m2, m3, hke.1, hke.2, m4⟩
  unfold J2_remove
  rw [e_wk h1, h4, J17_checkIndex_l hi (by omega), e_ob, h5, e_nn, e_rk hk, e_inN (by omega) (by omega), nI_clamp (by omega), (h10 i y hy).1, e_nn, m1]
  rfl
/-- clear -/
theorem J2_clear_l {g : GS} {ρ : Nat → Nat} {r b e : Nat} {xs : List Nat} (h : LiPe g ρ r b e xs) :
    ∃ g', J2_clear b g = some g' ∧ LiPe g' ρ r b e [] ∧ Fr (fun q => q = b ∨ (q = e ∧ gK g e = 103)) g g' ∧ gz g' = gz g := by
  obtain ⟨h1, h2, h3, h4, h5, h6, h7, h8, h9, h10⟩ := h
  have hbe : b ≠ e := by
    intro k
    rcases h7 with ⟨a, -⟩ | ⟨a, -⟩ <;> rw [k, a] at h1 <;> omega
  have hI2 : gI (pI g b 0 (gI g b 0 + 1)) b 2 = nI xs.length := by rw [I_pI, if_neg (by rintro ⟨-, k⟩; cases k), h4]
  obtain ⟨g', m1, m2, m3, m4⟩ : ∃ g', lp_ (fun a : Int32 × GS => J2_clear_b27 e (nI xs.length) a.1 a.2) fu_ (0, pI (pI g b 0 (gI g b 0 + 1)) b 2 0) = some g' ∧ (gK g' = gK g ∧ gN g' = gN g ∧ gS g' = gS g ∧ gz g' = gz g) ∧ gI g' = gI (pI (pI g b 0 (gI g b 0 + 1)) b 2 0) ∧ ∀ d, (d ≠ e ∨ gK g e ≠ 103) → ∀ j, gR g' d j = gR g d j := by
    refine lp_t (I := fun k a => ∃ i, a.1 = nI i ∧ i ≤ xs.length ∧ k = xs.length - i ∧ (gK a.2 = gK g ∧ gN a.2 = gN g ∧ gS a.2 = gS g ∧ gz a.2 = gz g) ∧ gI a.2 = gI (pI (pI g b 0 (gI g b 0 + 1)) b 2 0) ∧ ∀ d, (d ≠ e ∨ gK g e ≠ 103) → ∀ j, gR a.2 d j = gR g d j) ?_ fu_ xs.length _ ⟨0, rfl, Nat.zero_le _, rfl, ⟨rfl, rfl, rfl, rfl⟩, rfl, fun _ _ _ => rfl⟩ (by unfold fu_; omega)
    rintro k ⟨x3, g1⟩ ⟨i, e1, e2, e3, ⟨e4, e5, e6, e7⟩, e8, e9⟩
    cases e1
    by_cases hi : i < xs.length
    · have hke : gK g e = 103 := by
        rcases h7 with ⟨a, -⟩ | ⟨_, _, a⟩
        · exact a
        · omega
      refine Or.inl ⟨(nI i + 1, pR g1 e i 0), k - 1, by omega, ?_, i + 1, by rw [nI_1], by omega, by omega, ⟨e4, e5, e6, e7⟩, e8, fun d hd j => ?_⟩
      · show J2_clear_b27 e (nI xs.length) (nI i) g1 = _
        unfold J2_clear_b27
        rw [if_neg (nI_ge hi (by omega)), e_wk (by rw [e4]; exact hke), e_inN (by rw [e5]; omega) (by rw [e5]; omega), nI_clamp (by omega)]
      · have hde : d ≠ e := by
          rcases hd with k | k
          · exact k
          · exact absurd hke k
        show gR (pR g1 e i 0) d j = _
        rw [R_pR, if_neg (by rintro ⟨k, -⟩; exact hde k), e9 d hd j]
    · refine Or.inr ⟨g1, ?_, ⟨e4, e5, e6, e7⟩, e8, e9⟩
      show J2_clear_b27 e (nI xs.length) (nI i) g1 = _
      unfold J2_clear_b27
      rw [if_pos (nI_le (by omega) (by omega))]
  obtain ⟨c1, c2, c3, c4⟩ := m2
  refine ⟨g', ?_, ⟨by rw [c1]; exact h1, h2, by rw [c4]; exact h3, ?_, ?_, by rw [c4]; exact h6, by rw [c1, c2]; exact h7, Nat.zero_le _, by rw [c2]; exact h9, fun i y hy => by cases hy⟩, ⟨by rw [c4]; exact Nat.le_refl _, c3, fun q _ => by rw [c1, c2]; exact ⟨rfl, rfl⟩, fun q hq hw => ⟨fun j => ?_, fun j => ?_⟩⟩, c4⟩
  · unfold J2_clear
    rw [e_wk h1, R_pI, h5, e_nn, hI2, m1, e_ob]
  · rw [m3, I_pI, if_pos ⟨rfl, rfl⟩]; rfl
  · rw [m4 b (Or.inl hbe)]; exact h5
  · have hqb : q ≠ b := fun k => hw (Or.inl k)
    rw [m3, I_pI, if_neg (by rintro ⟨k, -⟩; exact hqb k), I_pI, if_neg (by rintro ⟨k, -⟩; exact hqb k)]
  · refine m4 q ?_ j
    by_cases hqe : q = e
    · exact Or.inr (fun k => hw (Or.inr ⟨hqe, k⟩))
    · exact Or.inl hqe
/-- Integers: the i-th of ys is f i -/
def IP (g : GS) (ρ : Nat → Nat) (ys : List Nat) (f : Nat → Int32) : Prop := ∀ i y, ys[i]? = some y → gK g y % 1000 = 14 ∧ ρ y = 0 ∧ y < gz g ∧ gI g y 0 = f i
theorem IP.to {W : Nat → Prop} {g g' : GS} {ρ ρ' : Nat → Nat} {ys : List Nat} {f : Nat → Int32} (h : IP g ρ ys f) (hF : Fr W g g') (hA : Ag g ρ ρ') (hW : ∀ q, q < gz g → ρ q = 0 → ¬ W q) : IP g' ρ' ys f := by
  intro i y hy
  obtain ⟨a, b, c, d⟩ := h i y hy
  exact ⟨by rw [hF.K c, a], by rw [hA y c, b], hF.lt c, by rw [hF.I c (hW y c b), d]⟩
theorem IP.re {g : GS} {ρ ρ' : Nat → Nat} {ys : List Nat} {f : Nat → Int32} (h : IP g ρ ys f) (h0 : ∀ q, q < gz g → ρ q = 0 → ρ' q = 0) : IP g ρ' ys f := by
  intro i y hy
  obtain ⟨a, b, c, d⟩ := h i y hy
  exact ⟨a, h0 y c b, c, d⟩
theorem IP.congr {g : GS} {ρ : Nat → Nat} {ys : List Nat} {f f' : Nat → Int32} (h : IP g ρ ys f) (hf : ∀ i, i < ys.length → f' i = f i) : IP g ρ ys f' := by
  intro i y hy
  obtain ⟨a, b, c, d⟩ := h i y hy
  exact ⟨a, b, c, by rw [hf i (List.getElem?_eq_some_iff.mp hy).1, d]⟩
def hs_ (f : Nat → Int32) (n : Nat) (v : Int32) : Bool := (List.range n).any (fun i => decide (f i = v))
theorem hs_t {f : Nat → Int32} {n : Nat} {v : Int32} : hs_ f n v = true ↔ ∃ i, i < n ∧ f i = v := by
  unfold hs_
  rw [List.any_eq_true]
  constructor
  · rintro ⟨i, hi, hv⟩
    exact ⟨i, List.mem_range.mp hi, of_decide_eq_true hv⟩
  · rintro ⟨i, hi, hv⟩
    exact ⟨i, List.mem_range.mpr hi, decide_eq_true hv⟩
theorem hs_f {f : Nat → Int32} {n : Nat} {v : Int32} (h : ∀ i, i < n → f i ≠ v) : hs_ f n v = false := by
  cases hb : hs_ f n v with
  | false => rfl
  | true =>
    obtain ⟨i, hi, hv⟩ := hs_t.mp hb
    exact absurd hv (h i hi)
theorem J19_intValue_l {g : GS} {y : Nat} (h : gK g y % 1000 = 14) : J19_intValue y g = some (gI g y 0) := by
  unfold J19_intValue
  rw [e_rk h]
theorem J2_contains_l {g : GS} {ρ : Nat → Nat} {r b x : Nat} {ys : List Nat} {f : Nat → Int32} {v : Int32} (h : LiP g ρ r b ys) (hI : IP g ρ ys f) (hx : gK g x % 1000 = 14) (hv : gI g x 0 = v) : J2_contains b x g = some (if hs_ f ys.length v = true then 1 else 0) := by
  have hl := h.len
  obtain ⟨e, h1, h2, h3, h4, h5, h6, h7, h8, h9, h10⟩ := h
  have hk : gK g e % 1000 = 103 := by rcases h7 with ⟨k, _⟩ | ⟨k, _⟩ <;> rw [k]
  obtain ⟨o, m1, m2⟩ : ∃ o, lp_ (fun a => J2_indexOfRange_b42 x (nI ys.length) e g a) fu_ 0 = some o ∧ ((∃ i, i < ys.length ∧ f i = v ∧ o = .inl (nI i)) ∨ ((∀ i, i < ys.length → f i ≠ v) ∧ o = .inr ())) := by
    refine lp_t (I := fun k a => ∃ i, a = nI i ∧ i ≤ ys.length ∧ k = ys.length - i ∧ ∀ j, j < i → f j ≠ v) ?_ fu_ ys.length _ ⟨0, rfl, Nat.zero_le _, rfl, fun j hj => by omega⟩ (by unfold fu_; omega)
    rintro k a ⟨i, e1, e2, e3, e4⟩
    subst e1
    by_cases hi : i < ys.length
    · obtain ⟨k1, k2, k3⟩ := h10 i _ (List.getElem?_eq_getElem hi)
      obtain ⟨n1, n2, n3, n4⟩ := hI i _ (List.getElem?_eq_getElem hi)
      have hb : J2_indexOfRange_b42 x (nI ys.length) e g (nI i) = if f i = v then some (.inr (.inl (nI i))) else some (.inl (nI i + 1)) := by
        unfold J2_indexOfRange_b42 J19_equals
        rw [if_neg (nI_ge hi (by omega)), e_rk hk, e_inN (by omega) (by omega), nI_clamp (by omega), k1, e_nn, e_rk hx, e_rk n1, if_neg (by decide), e_rk hx, J19_intValue_l n1, e_ob, n4, hv]
        by_cases hc : f i = v
        · rw [if_pos hc.symm, if_pos hc, e_ob, if_neg (by decide)]
        · rw [if_neg (fun k => hc k.symm), if_neg hc, e_ob, if_pos rfl]
      by_cases hc : f i = v
      · rw [if_pos hc] at hb
        exact Or.inr ⟨_, hb, Or.inl ⟨i, hi, hc, rfl⟩⟩
      · rw [if_neg hc] at hb
        refine Or.inl ⟨_, k - 1, by omega, hb, i + 1, nI_1 i, by omega, by omega, fun j hj => ?_⟩
        by_cases hji : j = i
        · rw [hji]; exact hc
        · exact e4 j (by omega)
    · refine Or.inr ⟨.inr (), ?_, Or.inr ⟨fun j hj => e4 j (by omega), rfl⟩⟩
      unfold J2_indexOfRange_b42
      rw [if_pos (nI_le (by omega) (by omega))]
  unfold J2_contains J2_indexOf J2_indexOfRange
  rw [e_wk h1, e_wk h1, h4, e_wk h1, h5, e_nn]
  rw [m1, e_ob]
  rcases m2 with ⟨i, hi, hf, ho⟩ | ⟨hn, ho⟩
  · rw [ho, if_pos (hs_t.mpr ⟨i, hi, hf⟩)]
    show (if nI i < 0 then some (0 : Int32) else some 1) = some 1
    rw [if_neg (nI_pos (by omega))]
  · rw [ho, hs_f hn]
    rfl
/-- the cache of small Integers -/
def EnC (g : GS) (ρ : Nat → Nat) : Prop := ∃ b, gS g 0 = b + 1 ∧ b < gz g ∧ ρ b = 0 ∧ gK g b % 1000 = 105 ∧ gN g b = 256 ∧ ∀ i, i < 256 → ∃ y, gR g b i = y + 1 ∧ gK g y % 1000 = 14 ∧ ρ y = 0 ∧ y < gz g ∧ gI g y 0 + 128 = nI i
theorem EnC.to {W : Nat → Prop} {g g' : GS} {ρ ρ' : Nat → Nat} (h : EnC g ρ) (hF : Fr W g g') (hA : Ag g ρ ρ') (hW : ∀ q, q < gz g → ρ q = 0 → ¬ W q) : EnC g' ρ' := by
  obtain ⟨b, a1, a2, a3, a4, a5, a6⟩ := h
  refine ⟨b, by rw [hF.S, a1], hF.lt a2, by rw [hA b a2, a3], by rw [hF.K a2, a4], by rw [hF.N a2, a5], fun i hi => ?_⟩
  obtain ⟨y, c1, c2, c3, c4, c5⟩ := a6 i hi
  exact ⟨y, by rw [hF.R a2 (hW b a2 a3), c1], by rw [hF.K c4, c2], by rw [hA y c4, c3], hF.lt c4, by rw [hF.I c4 (hW y c4 c3), c5]⟩
theorem J19_valueOf_l {g : GS} {ρ : Nat → Nat} (hC : EnC g ρ) (v : Int32) : ∃ y g' dc ds, J19_valueOf v g = some ((y, g'), dc, ds) ∧ Fr no_ g g' ∧ gK g' y % 1000 = 14 ∧ nr ρ g 0 y = 0 ∧ y < gz g' ∧ gI g' y 0 = v ∧ dc ≤ 1 ∧ ds ≤ 1 ∧ gz g' = gz g + dc := by
  have hj : ∃ g', J19_valueOf_j23 v g = some ((gz g, g'), 1, 1) ∧ Fr no_ g g' ∧ gK g' (gz g) % 1000 = 14 ∧ gI g' (gz g) 0 = v ∧ gz g' = gz g + 1 := by
    refine ⟨pI (nw_ g 14 1) (gz g) 0 v, ?_, ?_, ?_, ?_, rfl⟩
    · unfold J19_valueOf_j23 J19_init J18_init
      rw [e_al, e_ob, e_wk (by rw [K_nw, if_pos rfl]), e_ob]
      rfl
    · exact (Fr.nw (W := no_)).trans (Fr.pI (W := fun q => q = gz g) rfl) (fun q hq k => by omega)
    · rw [K_pI, K_nw, if_pos rfl]
    · rw [I_pI, if_pos ⟨rfl, rfl⟩]
  obtain ⟨g', j1, j2, j3, j4, j5⟩ := hj
  unfold J19_valueOf
  by_cases h1 : v < (-128)
  · rw [if_pos h1]
    exact ⟨gz g, g', 1, 1, j1, j2, j3, nr_ge (Nat.le_refl _), by omega, j4, by omega, by omega, j5⟩
  · rw [if_neg h1]
    by_cases h2 : 127 < v
    · rw [if_pos h2]
      exact ⟨gz g, g', 1, 1, j1, j2, j3, nr_ge (Nat.le_refl _), by omega, j4, by omega, by omega, j5⟩
    · rw [if_neg h2]
      obtain ⟨b, a1, a2, a3, a4, a5, a6⟩ := hC
      have hr : -128 ≤ v.toInt ∧ v.toInt ≤ 127 := by
        rw [i_lt] at h1 h2
        have e1 : ((-128 : Int32)).toInt = -128 := by decide
        have e2 : ((127 : Int32)).toInt = 127 := by decide
        omega
      have e3 : ((128 : Int32)).toInt = 128 := by decide
      have hs : (v + 128).toInt = v.toInt + 128 := by rw [i_add (by omega) (by omega), e3]
      obtain ⟨n, n1, n2, n3⟩ := i_nat (x := v + 128) (by omega)
      obtain ⟨y, c1, c2, c3, c4, c5⟩ := a6 n (by omega)
      refine ⟨y, g, 0, 0, ?_, Fr.rf, c2, by rw [nr_lt c4, c3], c4, ?_, by omega, by omega, by omega⟩
      · rw [a1, e_nn, e_rk a4, n1, e_inN (by omega) (by omega), nI_clamp (by omega), c1, e_nn]
      · rw [← n1] at c5
        exact (Int32.add_left_inj 128).mp c5
