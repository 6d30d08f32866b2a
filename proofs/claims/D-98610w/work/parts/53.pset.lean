/-! LAWS: settings (own work) -/
set_option maxRecDepth 100000
theorem nr_nr {ρ : Nat → Nat} {g g1 : GS} {r : Nat} (h : gz g ≤ gz g1) : nr (nr ρ g r) g1 r = nr ρ g r := by
  funext q
  unfold nr
  by_cases h1 : gz g1 ≤ q
  · rw [if_pos h1, if_pos (by omega)]
  · rw [if_neg h1]
/-- the settings x, all of whose cells have role r: the row S (as the model has it: hole, lag, wrist, eye, behind, hand, marks), m marks -/
def SetP (g : GS) (ρ : Nat → Nat) (r x m : Nat) (S : Nat → Int32) : Prop :=
  gK g x = 3 ∧ ρ x = r ∧ x < gz g ∧ (gI g x 0 = S 0 ∧ gI g x 1 = S 1 ∧ gI g x 2 = S 2 ∧ gI g x 3 = S 3 ∧ gI g x 4 = S 5 ∧ gI g x 5 = S 4) ∧ ∃ l ys, gR g x 6 = l + 1 ∧ LiP g ρ r l ys ∧ ys.length = m ∧ IP g ρ ys (fun i => S (6 + i))
theorem SetP.to {W : Nat → Prop} {g g' : GS} {ρ ρ' : Nat → Nat} {r x m : Nat} {S : Nat → Int32} (h : SetP g ρ r x m S) (hF : Fr W g g') (hA : Ag g ρ ρ') (hW : ∀ q, q < gz g → ρ q = r ∨ ρ q = 0 → ¬ W q) : SetP g' ρ' r x m S := by
  obtain ⟨h1, h2, h3, ⟨a0, a1, a2, a3, a4, a5⟩, l, ys, h5, h6, h7, h8⟩ := h
  have hx := hW x h3 (Or.inl h2)
  exact ⟨by rw [hF.K h3, h1], by rw [hA x h3, h2], hF.lt h3, ⟨by rw [hF.I h3 hx, a0], by rw [hF.I h3 hx, a1], by rw [hF.I h3 hx, a2], by rw [hF.I h3 hx, a3], by rw [hF.I h3 hx, a4], by rw [hF.I h3 hx, a5]⟩, l, ys, by rw [hF.R h3 hx, h5], h6.to hF hA hW, h7, h8.to hF hA (fun q hq k => hW q hq (Or.inr k))⟩
theorem SetP.re {g : GS} {ρ ρ' : Nat → Nat} {r r' x m : Nat} {S : Nat → Int32} (h : SetP g ρ r x m S) (h1 : ∀ q, q < gz g → ρ q = r → ρ' q = r') (h0 : ∀ q, q < gz g → ρ q = 0 → ρ' q = 0) : SetP g ρ' r' x m S := by
  obtain ⟨k1, k2, k3, k4, l, ys, h5, h6, h7, h8⟩ := h
  exact ⟨k1, h1 x k3 k2, k3, k4, l, ys, h5, h6.re h1 h0, h7, h8.re h0⟩
theorem SetP.congr {g : GS} {ρ : Nat → Nat} {r x m : Nat} {S S' : Nat → Int32} (h : SetP g ρ r x m S) (hS : ∀ i, i < 6 + m → S' i = S i) : SetP g ρ r x m S' := by
  obtain ⟨k1, k2, k3, ⟨a0, a1, a2, a3, a4, a5⟩, l, ys, h5, h6, h7, h8⟩ := h
  exact ⟨k1, k2, k3, ⟨by rw [hS 0 (by omega), a0], by rw [hS 1 (by omega), a1], by rw [hS 2 (by omega), a2], by rw [hS 3 (by omega), a3], by rw [hS 5 (by omega), a4], by rw [hS 4 (by omega), a5]⟩, l, ys, h5, h6, h7, h8.congr (fun i hi => hS (6 + i) (by omega))⟩
/-- a field is set -/
theorem SetP.put {g : GS} {ρ : Nat → Nat} {r x m : Nat} {S : Nat → Int32} (h : SetP g ρ r x m S) {k k' : Nat} {v : Int32} (hk : (k = 0 ∧ k' = 0) ∨ (k = 1 ∧ k' = 1) ∨ (k = 2 ∧ k' = 2) ∨ (k = 3 ∧ k' = 3) ∨ (k = 4 ∧ k' = 5) ∨ (k = 5 ∧ k' = 4)) : SetP (pI g x k v) ρ r x m (fun i => if i = k' then v else S i) := by
  obtain ⟨k1, k2, k3, ⟨a0, a1, a2, a3, a4, a5⟩, l, ys, h5, h6, h7, h8⟩ := h
  have hF : Fr (fun q => q = x) g (pI g x k v) := Fr.pI rfl
  refine ⟨k1, k2, k3, ?_, l, ys, h5, ?_, h7, ?_⟩
  · rcases hk with ⟨rfl, rfl⟩ | ⟨rfl, rfl⟩ | ⟨rfl, rfl⟩ | ⟨rfl, rfl⟩ | ⟨rfl, rfl⟩ | ⟨rfl, rfl⟩ <;> simp [I_pI, a0, a1, a2, a3, a4, a5]
  · obtain ⟨e, c1, c2, c3, c4, c5, c6, c7, c8⟩ := h6
    refine ⟨e, c1, c2, c3, ?_, c5, c6, c7, c8⟩
    rw [I_pI, if_neg (by rintro ⟨q, -⟩; rw [q, k1] at c1; omega), c4]
  · intro i y hy
    obtain ⟨c1, c2, c3, c4⟩ := h8 i y hy
    refine ⟨c1, c2, c3, ?_⟩
    show gI (pI g x k v) y 0 = if 6 + i = k' then v else S (6 + i)
    rw [I_pI, if_neg (by rintro ⟨q, -⟩; rw [q, k1] at c1; omega), c4, if_neg (by omega)]
theorem X3_init_l {g : GS} {ρ : Nat → Nat} (hE : EnE g ρ) (r : Nat) : ∃ g' e, X3_init (gz g) (nw_ g 3 7) = some (((), g'), 1, 3) ∧ gK g' (gz g) = 3 ∧ (gI g' (gz g) 0 = 3 ∧ gI g' (gz g) 1 = 2 ∧ gI g' (gz g) 2 = 20 ∧ gI g' (gz g) 3 = 0 ∧ gI g' (gz g) 4 = -1 ∧ gI g' (gz g) 5 = 0) ∧ gR g' (gz g) 6 = gz g + 1 + 1 ∧
    LiPe g' (nr ρ g r) r (gz g + 1) e [] ∧ gN g' e = 0 ∧ gK g' e = 1103 ∧ Fr no_ g g' ∧ gz g' = gz g + 2 := by
  obtain ⟨g3, hg3⟩ : ∃ g3, g3 = pI (pI (pI (pI (nw_ g 3 7) (gz g) 0 3) (gz g) 1 2) (gz g) 2 20) (gz g) 4 (-1) := ⟨_, rfl⟩
  have hz : gz g3 = gz g + 1 := by rw [hg3]; rfl
  have hF : Fr no_ g g3 := by
    rw [hg3]
    refine (Fr.nw (W := no_)).trans ((((Fr.pI (W := fun q => q = gz g) rfl).trans (Fr.pI (W := fun q => q = gz g) rfl) (fun _ _ k => k)).trans (Fr.pI (W := fun q => q = gz g) rfl) (fun _ _ k => k)).trans (Fr.pI (W := fun q => q = gz g) rfl) (fun _ _ k => k)) (fun q hq k => ?_)
    omega
  obtain ⟨g', e, c1, c2, c3, c4, c5, c6⟩ := J2_init_l (hE.to hF (nr_ag (r := r))) r
  rw [nr_nr (by omega)] at c2
  have hK3 : gK g3 (gz g) = 3 := by rw [hg3, K_pI, K_pI, K_pI, K_pI, K_nw, if_pos rfl]
  have hK' : gK g' (gz g) = 3 := by rw [c3.K (by omega)]; exact hK3
  have hI : ∀ i, gI g' (gz g) i = gI g3 (gz g) i := fun i => c3.I (by omega) (fun k => k) i
  have hL2 : LiPe (pR g' (gz g) 6 (gz g + 1 + 1)) (nr ρ g r) r (gz g + 1) e [] := by
    rw [hz] at c2
    obtain ⟨k1, k2, k3, k4, k5, k6, k7, k8, k9, k10⟩ := c2
    refine ⟨k1, k2, k3, k4, ?_, k6, k7, k8, k9, fun i y hy => by cases hy⟩
    rw [R_pR, if_neg (by rintro ⟨q, -⟩; omega), k5]
  refine ⟨pR g' (gz g) 6 (gz g + 1 + 1), e, ?_, ?_, ?_, ?_, hL2, c5, c6, ?_, ?_⟩
  · unfold X3_init
    rw [e_wk (by rw [K_nw, if_pos rfl]), ← hg3, e_al, c1, e_ob, e_wk hK', hz]
    rfl
  · exact hK'
  · simp only [I_pR, hI, hg3, I_pI, I_nw]
    simp
  · rw [R_pR, if_pos ⟨rfl, rfl⟩]
  · exact (hF.trans c3 (fun _ _ k => k)).trans (Fr.pR (W := fun q => q = gz g) rfl) (fun q hq k => by omega)
  · rw [z_pR, c4, hz]
theorem X3_copy_l {g : GS} {ρ : Nat → Nat} {rs x m : Nat} {S : Nat → Int32} (hE : EnE g ρ) (h : SetP g ρ rs x m S) (hm : m ≤ 6) (r : Nat) :
    ∃ g' dc ds, X3_copy x g = some ((gz g, g'), dc, ds) ∧ SetP g' (nr ρ g r) r (gz g) m S ∧ Fr no_ g g' ∧ gz g < gz g' ∧ dc ≤ 8 ∧ ds ≤ 90 := by
  obtain ⟨g1, e1, a1, a2, a3, a4, a5, a6, a6k, a7, a8⟩ := X3_init_l hE r
  have h0 := h
  obtain ⟨h1, h2, h3, ⟨b0, b1, b2, b3, b4, b5⟩, l, ys, h5, h6, h7, h8⟩ := h
  have hxne : x ≠ gz g := by omega
  obtain ⟨g2, hg2⟩ : ∃ g2, g2 = pI (pI (pI (pI (pI (pI g1 (gz g) 0 (S 0)) (gz g) 1 (S 1)) (gz g) 2 (S 2)) (gz g) 3 (S 3)) (gz g) 4 (S 5)) (gz g) 5 (S 4) := ⟨_, rfl⟩
  have hF2 : Fr (fun q => q = gz g) g1 g2 := by
    rw [hg2]
    exact (((((Fr.pI (W := fun q => q = gz g) rfl).trans (Fr.pI (W := fun q => q = gz g) rfl) (fun _ _ k => k)).trans (Fr.pI (W := fun q => q = gz g) rfl) (fun _ _ k => k)).trans (Fr.pI (W := fun q => q = gz g) rfl) (fun _ _ k => k)).trans (Fr.pI (W := fun q => q = gz g) rfl) (fun _ _ k => k)).trans (Fr.pI (W := fun q => q = gz g) rfl) (fun _ _ k => k)
  have hz2 : gz g2 = gz g + 2 := by rw [hg2]; exact a8
  have hF02 : Fr no_ g g2 := a7.trans hF2 (fun q hq k => by omega)
  have hI2 : gI g2 (gz g) 0 = S 0 ∧ gI g2 (gz g) 1 = S 1 ∧ gI g2 (gz g) 2 = S 2 ∧ gI g2 (gz g) 3 = S 3 ∧ gI g2 (gz g) 4 = S 5 ∧ gI g2 (gz g) 5 = S 4 := by
    rw [hg2]
    simp [I_pI]
  have hK2 : gK g2 (gz g) = 3 := by rw [hF2.K (by omega)]; exact a2
  have hR2 : gR g2 (gz g) 6 = gz g + 1 + 1 := by rw [hg2]; exact a4
  have hL2 : LiPe g2 (nr ρ g r) r (gz g + 1) e1 [] := by
    obtain ⟨k1, k2, k3, k4, k5, k6, k7, k8, k9, k10⟩ := a5
    have hq : ¬ (gz g + 1 = gz g) := by omega
    exact ⟨by rw [hF2.K k3]; exact k1, k2, hF2.lt k3, by rw [hF2.I k3 hq]; exact k4, by rw [hF2.R k3 hq]; exact k5, hF2.lt k6, by rw [hF2.K k6, hF2.N k6]; exact k7, by rw [hF2.N k6]; exact k8, by rw [hF2.N k6]; exact k9, fun i y hy => by cases hy⟩
  have hN2 : gN g2 e1 = 0 := by rw [hF2.N a5.2.2.2.2.2.1]; exact a6
  have key : ∃ e dc ds, la_ (fun a : Int32 × GS => X3_copy_b58 x (gz g) a.1 a.2) fu_ (0, g2) = some (e, dc, ds) ∧ (Fr no_ g e ∧ gz g < gz e ∧ (gK e (gz g) = 3 ∧ (∀ i, gI e (gz g) i = gI g2 (gz g) i) ∧ gR e (gz g) 6 = gz g + 1 + 1) ∧ ∃ ea, LiPe e (nr ρ g r) r (gz g + 1) ea ys ∧ dc + 0 ≤ m ∧ ds + 0 ≤ 4 * gN e ea ∧ gN e ea ≤ 20) := by
    refine la_t (I := fun k a c s => ∃ i ea, a.1 = nI i ∧ i ≤ m ∧ k = m - i ∧ Fr no_ g a.2 ∧ gz g + 2 ≤ gz a.2 ∧ (gK a.2 (gz g) = 3 ∧ (∀ i, gI a.2 (gz g) i = gI g2 (gz g) i) ∧ gR a.2 (gz g) 6 = gz g + 1 + 1) ∧ LiPe a.2 (nr ρ g r) r (gz g + 1) ea (ys.take i) ∧ c ≤ i ∧ s ≤ 4 * gN a.2 ea ∧ gN a.2 ea ≤ 20 ∧ (gK a.2 ea = 103 → gz g ≤ ea))
      (Q := fun e dc ds => Fr no_ g e ∧ gz g < gz e ∧ (gK e (gz g) = 3 ∧ (∀ i, gI e (gz g) i = gI g2 (gz g) i) ∧ gR e (gz g) 6 = gz g + 1 + 1) ∧ ∃ ea, LiPe e (nr ρ g r) r (gz g + 1) ea ys ∧ dc ≤ m ∧ ds ≤ 4 * gN e ea ∧ gN e ea ≤ 20)
      ?_ fu_ m (0, g2) 0 0 ⟨0, e1, rfl, Nat.zero_le _, rfl, hF02, by show gz g + 2 ≤ gz g2; omega, ⟨hK2, fun _ => rfl, hR2⟩, by rw [List.take_zero]; exact hL2, Nat.le_refl _, Nat.zero_le _, by show gN g2 e1 ≤ 20; omega, fun k => ?_⟩ (by unfold fu_; omega)
    · rintro k ⟨x2, g3⟩ c s ⟨i, ea, e0, i1, i2, i3, i4, ⟨i5, i6, i7⟩, i8, i9, i10, i11, i12⟩
      simp only at e0 i3 i4 i5 i6 i7 i8 i10 i11 i12 ⊢
      subst e0
      have hs3 : SetP g3 (nr ρ g r) rs x m S := h0.to i3 nr_ag (fun _ _ _ k => k)
      have s1 := hs3.1
      have hl3 : LiP g3 (nr ρ g r) rs l ys := h6.to i3 nr_ag (fun _ _ _ k => k)
      have hr3 : gR g3 x 6 = l + 1 := by rw [i3.R h3 (fun k => k), h5]
      by_cases hi : i < m
      · have hi' : i < ys.length := by omega
        have hy := List.getElem?_eq_getElem hi'
        obtain ⟨p1, p2, p3, p4⟩ := (h8.to i3 (nr_ag (r := r)) (fun _ _ _ k => k)) i _ hy
        obtain ⟨q1, q2, q3⟩ := hl3.at hy
        have hlt : (ys.take i).length = i := by rw [List.length_take]; omega
        obtain ⟨g4, e4, dc, ds, m1, m2, m3, m4, m5, m6, m7, m8, m9⟩ := J2_add_l i8 (by
          obtain ⟨d, hd⟩ := hE.s1
          exact ⟨d, by rw [i3.S, hd]⟩) (by rw [hlt]; omega) q1 q2
        rw [nr_nr (by omega)] at m2
        rw [hlt] at m6
        have hne : ∀ q, q ≤ gz g → ¬ (q = gz g + 1 ∨ (q = ea ∧ gK g3 ea = 103)) := by
          rintro q hq (k | ⟨k, k2⟩)
          · omega
          · have k3 := i12 k2
            have k4 : ea = gz g := by omega
            rw [k4, i5] at k2
            omega
        refine Or.inl ⟨(nI i + 1, g4), dc, ds, k - 1, by omega, ?_, i + 1, e4, nI_1 i, by omega, by omega, i3.trans m3 (fun q hq k => (hne q (by omega) k).elim), by show gz g + 2 ≤ gz g4; omega, ⟨?_, fun j => ?_, ?_⟩, ?_, by omega, by show ds + s ≤ 4 * gN g4 e4; omega, by show gN g4 e4 ≤ 20; omega, fun k => ?_⟩
        · unfold X3_copy_b58
          rw [e_wk s1, hr3, e_nn, e_wk hl3.K, J2_size_l hl3, e_ob, h7, if_neg (nI_ge hi (by omega)), e_wk i5, i7, e_nn, e_nn, e_wk hl3.K, J2_get_l hl3 hy, e_ob, e_rk p1, e_wk i8.1, m1, e_ca, e_bp, Nat.zero_add, Nat.zero_add]
        · show gK g4 (gz g) = 3
          rw [m3.K (by omega), i5]
        · show gI g4 (gz g) j = _
          rw [m3.I (by omega) (hne _ (Nat.le_refl _)), i6]
        · show gR g4 (gz g) 6 = _
          rw [m3.R (by omega) (hne _ (Nat.le_refl _)), i7]
        · rw [← List.take_append_getElem hi']
          exact m2
        · rcases m9 with k9 | ⟨k9, -⟩
          · rw [k9] at k ⊢
            rw [m3.K i8.2.2.2.2.2.1] at k
            exact i12 k
          · omega
      · have him : i = m := by omega
        refine Or.inr ⟨g3, 0, 0, ?_, i3, by show gz g < gz g3; omega, ⟨i5, i6, i7⟩, ea, ?_, by omega, by omega, i11⟩
        · unfold X3_copy_b58
          rw [e_wk s1, hr3, e_nn, e_wk hl3.K, J2_size_l hl3, e_ob, h7, if_pos (nI_le (by omega) (by omega))]
        · rw [him, ← h7, List.take_length] at i8
          exact i8
    · exfalso
      have k' : gK g2 e1 = 103 := k
      rw [hF2.K a5.2.2.2.2.2.1, a6k] at k'
      omega
  obtain ⟨ge, dc, ds, l1, l2, l3, ⟨l4, l5, l6⟩, ea, l7, l8, l9, l10⟩ := key
  refine ⟨ge, dc + 1 + 1, ds + 3 + 7, ?_, ⟨l4, nr_ge (Nat.le_refl _), l3, ?_, gz g + 1, ys, l6, ⟨ea, l7⟩, h7, h8.to l2 nr_ag (fun _ _ _ k => k)⟩, l2, l3, by omega, by omega⟩
  · unfold X3_copy
    rw [e_al, a1, e_ca, e_wk (by rw [a7.K h3]; exact h1), e_wk a2]
    have hg : ∀ k, gI g1 x k = gI g x k := fun k => a7.I h3 (fun q => q) k
    have hq : ∀ (gg : GS) (k j : Nat) (v : Int32), gI (pI gg (gz g) k v) x j = gI gg x j := fun gg k j v => by rw [I_pI, if_neg (by rintro ⟨q, -⟩; exact hxne q)]
    simp only [hq, hg, b0, b1, b2, b3, b4, b5]
    rw [← hg2, l1, e_oa, e_bp, e_bp, e_bp]
    simp only [Nat.zero_add]
  · rw [l5, l5, l5, l5, l5, l5]
    exact hI2
