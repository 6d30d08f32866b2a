/-! LAWS: chains (own work) -/
set_option maxRecDepth 100000
/-- a chain under construction: its list l (places e) and its text sb (bytes v) -/
def ChPe (g : GS) (ρ : Nat → Nat) (ch l e sb v : Nat) (xs : List Nat) (ss : List Int32) : Prop := (gK g ch = 6 ∧ ρ ch = 12 ∧ ch < gz g ∧ gR g ch 0 = l + 1 ∧ gR g ch 1 = sb + 1) ∧ LiPe g ρ 12 l e xs ∧ SbPe g ρ 12 sb v ss
theorem X7_init_l {g : GS} {ρ : Nat → Nat} {ch x : Nat} (hE : EnE g ρ) (hc : gK g ch = 6) (hr : ρ ch = 12) (hz : ch < gz g) (hx : x < gz g) (hs : g_sto (gK g x % 1000) = true) :
    ∃ g' l e sb v dc ds, X7_init ch x g = some (((), g'), dc, ds) ∧ ChPe g' (nr ρ g 12) ch l e sb v [x] [] ∧ Fr (fun q => q = ch) g g' ∧ dc ≤ 4 ∧ ds ≤ 33 ∧ gN g' v = 16 ∧ gz g ≤ l ∧ gz g ≤ sb ∧ gN g' e ≤ 10 := by
  obtain ⟨g1, e, a1, a2, a3, a4, a5, a6⟩ := J2_init_l hE 12
  obtain ⟨g2, hg2⟩ : ∃ g2, g2 = pR g1 ch 0 (gz g + 1) := ⟨_, rfl⟩
  have F12 : Fr (fun q => q = ch) g1 g2 := by rw [hg2]; exact Fr.pR rfl
  have z2 : gz g2 = gz g + 1 := by rw [hg2]; exact a4
  obtain ⟨g3, b1, b2, b3, b4, b5⟩ := J14_init_l (g := g2) (ρ := nr ρ g 12) (r := 12)
  rw [nr_nr (by omega)] at b2
  obtain ⟨g4, hg4⟩ : ∃ g4, g4 = pR g3 ch 1 (gz g2 + 1) := ⟨_, rfl⟩
  have F34 : Fr (fun q => q = ch) g3 g4 := by rw [hg4]; exact Fr.pR rfl
  have hc1 : gK g1 ch = 6 := by rw [a3.K hz, hc]
  have l1 : ch < gz g1 := by omega
  have l2 : ch < gz g2 := by omega
  have hc3 : gK g3 ch = 6 := by rw [b3.K l2, hg2, K_pR, hc1]
  have l3 : ch < gz g3 := b3.lt l2
  have F24 : Fr (fun q => q = ch) g2 g4 := (b3.mono (fun _ _ k => k.elim)).trans F34 (fun _ _ k => k)
  have hA : Ag g1 (nr ρ g 12) (nr ρ g 12) := Ag.rf
  have hne : ∀ q, gK g1 q ≠ 6 → q < gz g1 → ¬ q = ch := fun q k _ k2 => by rw [k2] at k; exact k hc1
  have he : LiPe g4 (nr ρ g 12) 12 (gz g) e [] := by
    obtain ⟨k1, k2, k3, k4, k5, k6, k7, k8, k9, k10⟩ := a2
    have F14 : Fr (fun q => q = ch) g1 g4 := F12.trans F24 (fun _ _ k => k)
    have nb : ¬ gz g = ch := by omega
    have ne : ¬ e = ch := fun q => by rw [q, hc1] at a6; cases a6
    exact ⟨by rw [F14.K k3, k1], k2, F14.lt k3, by rw [F14.I k3 nb, k4], by rw [F14.R k3 nb, k5], F14.lt k6, by rw [F14.K k6, F14.N k6]; exact k7, Nat.zero_le _, by rw [F14.N k6]; exact k9, fun i y hy => by cases hy⟩
  have hS : ∃ d, gS g4 1 = d + 1 := by
    obtain ⟨⟨d, hd, -⟩, -⟩ := hE
    exact ⟨d, by rw [F24.S, F12.S, a3.S, hd]⟩
  have F04 : Fr (fun q => q = ch) g g4 := ((a3.mono (fun _ _ k => k.elim)).trans F12 (fun _ _ k => k)).trans F24 (fun _ _ k => k)
  obtain ⟨g5, e', dc, ds, d1, d2, d3, d4, d5, d6, d7, d8, d9⟩ := J2_add_l (x := x) he hS (by simp) (F04.lt hx) (by rw [F04.K hx]; exact hs)
  rw [nr_nr F04.z] at d2
  have hzz : ¬ gz g = ch := by omega
  have W5 : ∀ q, (q = gz g ∨ (q = e ∧ gK g4 e = 103)) → q = gz g := fun q k => by
    rcases k with k | ⟨k, k2⟩
    · exact k
    · have le1 : e < gz g1 := a2.2.2.2.2.2.1
      rw [F24.K (F12.lt le1), F12.K le1, a6] at k2
      cases k2
  have d3' : Fr (fun q => q = gz g) g4 g5 := d3.mono (fun q _ k => W5 q k)
  have l4 : ch < gz g4 := F34.lt l3
  have hcg : ¬ ch = gz g := by omega
  have r0 : gR g4 ch 0 = gz g + 1 := by rw [hg4, R_pR, if_neg (by rintro ⟨-, k⟩; cases k), b3.R l2 (fun k => k), hg2, R_pR, if_pos ⟨rfl, rfl⟩]
  have r1 : gR g4 ch 1 = gz g2 + 1 := by rw [hg4, R_pR, if_pos ⟨rfl, rfl⟩]
  have hsb : SbPe g5 (nr ρ g 12) 12 (gz g2) (gz g2 + 1) [] := (b2.to F34 Ag.rf (fun q _ k => ⟨by rw [k]; omega, by rw [k]; omega⟩)).to d3' Ag.rf (fun q _ k => ⟨by rw [k]; omega, by rw [k]; omega⟩)
  have hds : ds ≤ 10 := by have : ([] : List Nat).length = 0 := rfl; omega
  have hN : gN g5 (gz g2 + 1) = 16 := by rw [d3.N (by rw [hg4, z_pR, b4]; omega), hg4, N_pR, b5]
  have hN0 : gN g4 e = 0 := by
    have le1 : e < gz g1 := a2.2.2.2.2.2.1
    rw [F24.N (F12.lt le1), F12.N le1, a5]
  have he10 : gN g5 e' ≤ 10 := by
    rcases d6 with k | k | k
    · omega
    · exact k
    · have : ([] : List Nat).length = 0 := rfl
      omega
  refine ⟨g5, gz g, e', gz g2, gz g2 + 1, 0 + dc + 1 + 1 + 1, 0 + ds + 16 + 4 + 3, ?_, ⟨⟨by rw [d3.K l4, hg4, K_pR, hc3], by rw [nr_lt hz, hr], d3.lt l4, by rw [d3'.R l4 hcg, r0], by rw [d3'.R l4 hcg, r1]⟩, d2, hsb⟩, F04.trans d3' (fun q hq k => by omega), by omega, by omega, hN, Nat.le_refl _, by omega, he10⟩
  unfold X7_init
  rw [e_al, a1, e_ob, e_wk hc1, ← hg2, e_al, b1, e_ca, e_wk hc3, ← hg4, r0, e_nn, e_wk he.1, d1, e_ca, e_bp, e_bp, e_bp, e_bp]
theorem X7_add_l {g : GS} {ρ : Nat → Nat} {ch l e sb v x : Nat} {c : Int32} {xs : List Nat} {ss : List Int32} (h : ChPe g ρ ch l e sb v xs ss) (hS : ∃ d, gS g 1 = d + 1) (hl : xs.length ≤ 1300) (hl2 : ss.length ≤ 1300) (hx : x < gz g) (hs : g_sto (gK g x % 1000) = true) (hc : okS c) :
    ∃ g' e' v' dc ds, X7_add ch c x g = some (((), g'), dc, ds) ∧ ChPe g' (nr ρ g 12) ch l e' sb v' (xs ++ [x]) (ss ++ [c]) ∧ Fr (fun q => q = l ∨ (q = e ∧ gK g e = 103) ∨ q = sb ∨ q = v) g g' ∧ dc ≤ 2 ∧ ds + 4 * gN g e + 2 * gN g v ≤ 4 * gN g' e' + 2 * gN g' v' ∧ (gN g' e' ≤ gN g e ∨ gN g' e' ≤ 10 ∨ 2 * gN g' e' ≤ 20 + 3 * xs.length) ∧ (gN g' v' ≤ gN g v ∨ gN g' v' ≤ 2 * ss.length + 2) := by
  obtain ⟨⟨c1, c2, c3, c4, c5⟩, he, hb⟩ := h
  obtain ⟨g1, v', dc1, ds1, a1, a2, a3, a4, a5, a6⟩ := J14_append_l hb (by omega) hc
  have hKl := he.1
  have hKv : gK g v = 101 := hb.2.2.2.2.2.2.2.1
  have hKs : gK g sb = 13 := hb.1
  have W1 : ∀ q, (q = sb ∨ q = v) → gK g q = 13 ∨ gK g q = 101 := fun q k => by
    rcases k with k | k
    · exact Or.inl (by rw [k, hKs])
    · exact Or.inr (by rw [k, hKv])
  have hKe : gK g e = 103 ∨ gK g e = 1103 := by
    rcases he.2.2.2.2.2.2.1 with ⟨k, -⟩ | ⟨k, -⟩
    · exact Or.inl k
    · exact Or.inr k
  have nl : ¬ (l = sb ∨ l = v) := fun k => by have := W1 l k; omega
  have ne : ¬ (e = sb ∨ e = v) := fun k => by have := W1 e k; omega
  have nch : ¬ (ch = sb ∨ ch = v) := fun k => by have := W1 ch k; omega
  have hA1 : Ag g ρ (nr ρ g 12) := nr_ag
  have he1 : LiPe g1 (nr ρ g 12) 12 l e xs := by
    obtain ⟨k1, k2, k3, k4, k5, k6, k7, k8, k9, k10⟩ := he
    exact ⟨by rw [a3.K k3, k1], by rw [nr_lt k3, k2], a3.lt k3, by rw [a3.I k3 nl, k4], by rw [a3.R k3 nl, k5], a3.lt k6, by rw [a3.K k6, a3.N k6, nr_lt k6]; exact k7, by rw [a3.N k6]; exact k8, by rw [a3.N k6]; exact k9, fun i y hy => by
      obtain ⟨z1, z2, z3⟩ := k10 i y hy
      exact ⟨by rw [a3.R k6 ne, z1], a3.lt z2, by rw [a3.K z2]; exact z3⟩⟩
  obtain ⟨g2, e', dc2, ds2, d1, d2, d3, d4, d5, d6, d7, d8, d9⟩ := J2_add_l (x := x) he1 (by rw [a3.S]; exact hS) hl (a3.lt hx) (by rw [a3.K hx]; exact hs)
  rw [nr_nr a3.z] at d2
  have c1' : gK g1 ch = 6 := by rw [a3.K c3, c1]
  have hke1 : gK g1 e = gK g e := a3.K he.2.2.2.2.2.1
  have W2 : ∀ q, q < gz g1 → (q = l ∨ (q = e ∧ gK g1 e = 103)) → gK g1 q = 12 ∨ gK g1 q = 103 := fun q _ k => by
    rcases k with k | ⟨k, k2⟩
    · exact Or.inl (by rw [k, he1.1])
    · exact Or.inr (by rw [k, k2])
  have nch2 : ¬ (ch = l ∨ (ch = e ∧ gK g1 e = 103)) := fun k => by have := W2 ch (a3.lt c3) k; omega
  have hb2 : SbPe g2 (nr ρ g 12) 12 sb v' (ss ++ [c]) := a2.to d3 Ag.rf (fun q hq k => by
    have := W2 q hq k
    have k1 := a2.1
    have k2 : gK g1 v' = 101 := a2.2.2.2.2.2.2.2.1
    exact ⟨fun z => by rw [z, k1] at this; omega, fun z => by rw [z, k2] at this; omega⟩)
  have hNe : gN g1 e = gN g e := a3.N he.2.2.2.2.2.1
  have hNv : gN g2 v' = gN g1 v' := d3.N a2.2.2.2.2.2.2.1
  refine ⟨g2, e', v', 0 + dc2 + dc1, 0 + ds2 + ds1, ?_, ⟨⟨by rw [d3.K (a3.lt c3), c1'], by rw [nr_lt c3, c2], d3.lt (a3.lt c3), by rw [d3.R (a3.lt c3) nch2, a3.R c3 nch, c4], by rw [d3.R (a3.lt c3) nch2, a3.R c3 nch, c5]⟩, d2, hb2⟩, ?_, by omega, by omega, by omega, by rw [hNv]; exact a6⟩
  · unfold X7_add
    rw [e_wk c1, c5, e_nn, e_wk hKs, a1, e_ca, e_wk c1', a3.R c3 nch, c4, e_nn, e_wk he1.1, d1, e_ca, e_bp, e_bp]
  · refine (a3.mono (fun q _ k => Or.inr (Or.inr k))).trans d3 (fun q hq k => ?_)
    rcases k with k | ⟨k, k2⟩
    · exact Or.inl k
    · exact Or.inr (Or.inl ⟨k, by rw [← hke1]; exact k2⟩)
