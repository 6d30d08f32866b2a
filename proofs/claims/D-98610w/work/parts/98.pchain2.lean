/-! LAWS: chains (own work) -/
set_option maxRecDepth 100000
/-- a chain under construction: its list l (places e) and its text sb (bytes v) -/
def ChPe (g : GS) (ρ : Nat → Nat) (ch l e sb v : Nat) (xs : List Nat) (ss : List Int32) : Prop := (gK g ch = 6 ∧ ρ ch = 12 ∧ ch < gz g ∧ gR g ch 0 = l + 1 ∧ gR g ch 1 = sb + 1) ∧ LiPe g ρ 12 l e xs ∧ SbPe g ρ 12 sb v ss
theorem X7_init_l {g : GS} {ρ : Nat → Nat} {ch x : Nat} (hE : EnE g ρ) (hc : gK g ch = 6) (hr : ρ ch = 12) (hz : ch < gz g) (hx : x < gz g) (hs : g_sto (gK g x % 1000) = true) :
    ∃ g' l e sb v dc ds, X7_init ch x g = some (((), g'), dc, ds) ∧ ChPe g' (nr ρ g 12) ch l e sb v [x] [] ∧ Fr (fun q => q = ch) g g' ∧ dc ≤ 4 ∧ ds ≤ 33 ∧ gN g' v = 16 ∧ gz g ≤ l ∧ gz g ≤ sb ∧ gN g' e ≤ 10 := by
  obtain ⟨g1, e, a1, a2, a3, a4, a5, a6⟩ := J2_init_l hE 12
  obtain ⟨g2, hg2⟩ : ∃ g2, g2 = pR g1 ch 0 (gz g + 1) := ⟨_, rfl⟩
  have F12 : Fr (fun q => q = ch) g1 g2 := by rw [hg2]; exact Fr.pR rfl
  have z2 : gz g2 = gz g + 1 := by rw [hg2]; exact a4
  obtain ⟨g3, b1, b2, b3, b4, b5⟩ := J14_init_l (g := g2) (ρ := nr ρ g 12) (r := 12)
  rw [nr_nr (by omega)] at b2
  obtain ⟨g4, hg4⟩ : ∃ g4, g4 = pR g3 ch 1 (gz g2 + 1) := ⟨_, rfl⟩
  have F34 : Fr (fun q => q = ch) g3 g4 := by rw [hg4]; exact Fr.pR rfl
  have hc1 : gK g1 ch = 6 := by rw [a3.K hz, hc]
  have l1 : ch < gz g1 := by omega
  have l2 : ch < gz g2 := by omega
  have hc3 : gK g3 ch = 6 := by rw [b3.K l2, hg2, K_pR, hc1]
  have l3 : ch < gz g3 := b3.lt l2
  have F24 : Fr (fun q => q = ch) g2 g4 := (b3.mono (fun _ _ k => k.elim)).trans F34 (fun _ _ k => k)
  have hA : Ag g1 (nr ρ g 12) (nr ρ g 12) := Ag.rf
  have hne : ∀ q, gK g1 q ≠ 6 → q < gz g1 → ¬ q = ch := fun q k _ k2 => by rw [k2] at k; exact k hc1
  have he : LiPe g4 (nr ρ g 12) 12 (gz g) e [] := by
    obtain ⟨k1, k2, k3, k4, k5, k6, k7, k8, k9, k10⟩ := a2
    have F14 : Fr (fun q => q = ch) g1 g4 := F12.trans F24 (fun _ _ k => k)
    have nb : ¬ gz g = ch := by omega
    have ne : ¬ e = ch := fun q => by rw [q, hc1] at a6; cases a6
    exact ⟨by rw [F14.K k3, k1], k2, F14.lt k3, by rw [F14.I k3 nb, k4], by rw [F14.R k3 nb, k5], F14.lt k6, by rw [F14.K k6, F14.N k6]; exact k7, Nat.zero_le _, by rw [F14.N k6]; exact k9, fun i y hy => by cases hy⟩
  have hS : ∃ d, gS g4 1 = d + 1 := by
    obtain ⟨⟨d, hd, -⟩, -⟩ := hE
    exact ⟨d, by rw [F24.S, F12.S, a3.S, hd]⟩
  have F04 : Fr (fun q => q = ch) g g4 := ((a3.mono (fun _ _ k => k.elim)).trans F12 (fun _ _ k => k)).trans F24 (fun _ _ k => k)
  obtain ⟨g5, e', dc, ds, d1, d2, d3, d4, d5, d6, d7, d8, d9⟩ := J2_add_l (x := x) he hS (by simp) (F04.lt hx) (by rw [F04.K hx]; exact hs)
  sorry
