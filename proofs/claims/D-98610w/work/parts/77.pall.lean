/-! LAWS: what an act leaves as it was (own work) -/
set_option maxRecDepth 100000
theorem RelP.all {W : Nat → Prop} {LI LA LR LJ D : List Nat} {a o sc v n k h x m T : Nat} {g g' : GS} {ρ ρ' : Nat → Nat} {σ σ' : MS} (hp : RelP a o sc v n k h x m T g ρ σ) (hF : Fr W g g') (hA : Ag g ρ ρ') (hr : ∀ r, r ∉ D → ∀ q, q < gz g → ρ q = r → ¬ W q) (hR : ∀ i, i ∉ LR → gR g' a i = gR g a i) (hJ : ∀ i, i ∉ LJ → gI g' a i = gI g a i) (hM : Mf LI LA σ σ') (h0 : 0 ∉ D) :
    ((0 ∉ LR ∧ 2 ∉ LR) ∧ (1 ∉ LI ∧ 2 ∉ LI ∧ 3 ∉ LI ∧ 5 ∉ LI ∧ 6 ∉ LI ∧ 7 ∉ LI) ∧ (8 ∉ LA ∧ 9 ∉ LA ∧ 10 ∉ LA ∧ 11 ∉ LA ∧ 12 ∉ LA ∧ 13 ∉ LA) → CW g' ρ' a sc v n k h σ' ∧ sm_ (m_A σ' 9) n = nI T ∧ T ≤ 600) ∧
    (2 ∉ D ∧ 1 ∉ LR ∧ 4 ∉ LI ∧ 53 ∉ LA → NowP g' ρ' a x m h σ') ∧
    (59 ∉ LI ∧ 60 ∉ LI ∧ 64 ∉ LI → ZeP σ') ∧
    (7 ∉ D ∧ 3 ∉ LR ∧ (4 ∉ LJ ∧ 5 ∉ LJ) ∧ (15 ∉ LI ∧ 17 ∉ LI) ∧ 14 ∉ LA → TapP g' ρ' a σ') ∧
    (8 ∉ D ∧ 6 ∉ LR ∧ 18 ∉ LA → RefP g' ρ' a σ') ∧
    (3 ∉ D ∧ 7 ∉ LR ∧ (53 ∉ LA ∧ 55 ∉ LA) ∧ 56 ∉ LI → AcP g' ρ' 3 a 7 m h (m_A σ' 53) (m_A σ' 55) (m_I σ' 56)) ∧
    (4 ∉ D ∧ 8 ∉ LR ∧ 75 ∉ LA ∧ 74 ∉ LI → FilP g' ρ' 4 a 8 T (m_A σ' 75) (m_I σ' 74)) ∧
    (5 ∉ D ∧ 9 ∉ LR ∧ 77 ∉ LA ∧ 76 ∉ LI → BooP g' ρ' 5 a 9 (m_A σ' 77) (m_I σ' 76)) ∧
    (10 ∉ LR ∧ 68 ∉ LI ∧ 70 ∉ LA → KepP g' ρ' a σ') ∧
    ((11 ∉ LR ∧ 12 ∉ LR ∧ 13 ∉ LR ∧ 14 ∉ LR) ∧ (78 ∉ LI ∧ 79 ∉ LI ∧ 80 ∉ LI ∧ 81 ∉ LI) ∧ (82 ∉ LA ∧ 83 ∉ LA ∧ 84 ∉ LA ∧ 85 ∉ LA) → ImgP g' ρ' a m h T σ') ∧
    EnvP g' ρ' ∧ OutP g' ρ' o := by
  obtain ⟨⟨h1, h2, h3⟩, h4, h5, h6, h7, h8, h9, h10, h11, h12, h13, h14⟩ := hp
  have n0 := hr 0 h0
  have two : ∀ r, r ∉ D → ∀ q, q < gz g → ρ q = r ∨ ρ q = 0 → ¬ W q := fun r hd q hq k => k.elim (hr r hd q hq) (n0 q hq)
  refine ⟨?_, ?_, ?_, ?_, ?_, ?_, ?_, ?_, ?_, ?_, h13.to hF hA n0, h14.to hF hA⟩
  · rintro ⟨⟨a0, a2⟩, b, c⟩
    exact ⟨h1.to hF hA n0 ⟨hR 0 a0, hR 2 a2⟩ hM b c, by rw [hM.Af c.2.1]; exact h2, h3⟩
  · rintro ⟨d, r1, i4, j53⟩
    exact h4.to hF hA (two 2 d) (hR 1 r1) (hM.I i4) (hM.Af j53)
  · rintro ⟨i1, i2, i3⟩
    obtain ⟨z1, z2, z3⟩ := h5
    exact ⟨by rw [hM.I i1, z1], by rw [hM.I i2, z2], by rw [hM.I i3, z3]⟩
  · rintro ⟨d, r3, ⟨j4, j5⟩, ⟨i1, i2⟩, l⟩
    exact h6.to hF hA (hr 7 d) (hR 3 r3) (hJ 4 j4) (hJ 5 j5) (hM.I i1) (hM.I i2) (hM.Af l)
  · rintro ⟨d, r, l⟩
    exact h7.to hF hA (hr 8 d) (hR 6 r) (hM.Af l)
  · rintro ⟨d, r, ⟨l1, l2⟩, i⟩
    rw [hM.Af l1, hM.Af l2, hM.I i]
    exact h8.to hF hA (two 3 d) (hR 7 r)
  · rintro ⟨d, r, l, i⟩
    rw [hM.Af l, hM.I i]
    exact h9.to hF hA (two 4 d) (hR 8 r)
  · rintro ⟨d, r, l, i⟩
    rw [hM.Af l, hM.I i]
    exact h10.to hF hA (two 5 d) (hR 9 r)
  · rintro ⟨r, i, l⟩
    exact h11.to hF hA n0 (hR 10 r) (hM.I i) (hM.Af l)
  · rintro ⟨⟨r1, r2, r3, r4⟩, ⟨i1, i2, i3, i4⟩, l1, l2, l3, l4⟩
    exact h12.to hF hA n0 ⟨hR 11 r1, hR 12 r2, hR 13 r3, hR 14 r4⟩ ⟨hM.I i1, hM.I i2, hM.I i3, hM.I i4⟩ ⟨hM.Af l1, hM.Af l2, hM.Af l3, hM.Af l4⟩
/-- a refusal is counted -/
theorem RelP.refu {a o sc v n k h x m T : Nat} {g : GS} {ρ : Nat → Nat} {σ : MS} (hp : RelP a o sc v n k h x m T g ρ σ) (i : Nat) (hi : i < 3) (w : Int32) : ∃ rf, gR g a 6 = rf + 1 ∧ gK g rf = 100 ∧ gN g rf = 3 ∧ X4_refuses (nI i) w σ = some (w, s_A σ 18 i (m_A σ 18 i + 1)) ∧ X1_refuse a (nI i) g = some (-1, pI g rf i (gI g rf i + 1)) ∧ RelP a o sc v n k h x m T (pI g rf i (gI g rf i + 1)) ρ (s_A σ 18 i (m_A σ 18 i + 1)) := by
  obtain ⟨rf, b1, b2, b3, b4, b5, b6⟩ := hp.2.2.2.2.1
  have ha := hp.1.1.1
  have hne : ¬ a = rf := by intro q; rw [q, b2] at ha; omega
  obtain ⟨B, N, Z, Ta, Re, Ac, Fi, Bo, Ke, Im, En, Ou⟩ := hp.all (W := fun q => q = rf) (LI := []) (LA := [18]) (LR := []) (LJ := []) (D := [8]) (g' := pI g rf i (gI g rf i + 1)) (ρ' := ρ) (σ' := s_A σ 18 i (m_A σ 18 i + 1)) (Fr.pI rfl) Ag.rf (fun r hr q _ k e => by rw [e, b4] at k; exact hr (by simp [k])) (fun _ _ => rfl) (fun j _ => by rw [I_pI, if_neg (by rintro ⟨q, -⟩; exact hne q)]) (Mf.sA (by decide)) (by decide)
  refine ⟨rf, b1, b2, b3, ?_, ?_, B (by decide), N (by decide), Z (by decide), Ta (by decide), ⟨rf, b1, b2, b3, b4, b5, fun j hj => ?_⟩, Ac (by decide), Fi (by decide), Bo (by decide), Ke (by decide), Im (by decide), En, Ou⟩
  · unfold X4_refuses
    rw [e_inN hi (by omega), e_inN hi (by omega), nI_clamp (by omega)]
  · unfold X1_refuse
    rw [e_wk ha.1, b1, e_nn, e_rk (by rw [b2]), b3, e_inN hi (by omega), e_wk b2, e_inN hi (by omega), nI_clamp (by omega)]
  · rw [I_pI, rA_sA]
    by_cases q : j = i
    · rw [if_pos ⟨rfl, q⟩, if_pos ⟨rfl, q⟩, b6 i hi]
    · rw [if_neg (by rintro ⟨-, k⟩; exact q k), if_neg (by rintro ⟨-, k⟩; exact q k), b6 j hj]
