/-! LAWS: questions, their frame (own work) -/
set_option maxRecDepth 100000
def OpT (K : List (Nat × Int32)) (a o : Nat) (X : Option (((Int32 ⊕ (Nat × Nat)) × GS) × Nat × Nat)) (M : Option (Int32 × MS)) : Prop :=
  ∃ w g' dc ds r σ', X = some ((w, g'), dc, ds) ∧ M = some (r, σ') ∧ Rel a o g' σ' ∧ dc ≤ 18000 ∧ ds ≤ 80000 ∧ ((w = .inl r ∧ m_I σ' 0 = 0) ∨ ∃ e q, w = .inr (e, q) ∧ (e, m_I σ' 0) ∈ K)
def OpI (a o : Nat) (X : Option ((Int32 × GS) × Nat × Nat)) (M : Option (Int32 × MS)) : Prop :=
  ∃ r g' dc ds σ', X = some ((r, g'), dc, ds) ∧ M = some (r, σ') ∧ Rel a o g' σ' ∧ dc ≤ 18000 ∧ ds ≤ 80000
theorem OpT.ok {K : List (Nat × Int32)} {a o : Nat} {X : Option (((Int32 ⊕ (Nat × Nat)) × GS) × Nat × Nat)} {M : Option (Int32 × MS)} {r : Int32} {g' : GS} {σ' : MS} {dc ds : Nat} (h1 : X = some ((.inl r, g'), dc, ds)) (h2 : M = some (r, σ')) (h3 : Rel a o g' σ') (h4 : dc ≤ 18000) (h5 : ds ≤ 80000) (h6 : m_I σ' 0 = 0) : OpT K a o X M := ⟨_, _, _, _, _, _, h1, h2, h3, h4, h5, Or.inl ⟨rfl, h6⟩⟩
theorem OpT.ex {K : List (Nat × Int32)} {a o : Nat} {X : Option (((Int32 ⊕ (Nat × Nat)) × GS) × Nat × Nat)} {M : Option (Int32 × MS)} {r : Int32} {g' : GS} {σ' : MS} {dc ds e q : Nat} (h1 : X = some ((.inr (e, q), g'), dc, ds)) (h2 : M = some (r, σ')) (h3 : Rel a o g' σ') (h4 : dc ≤ 18000) (h5 : ds ≤ 80000) (h6 : (e, m_I σ' 0) ∈ K) : OpT K a o X M := ⟨_, _, _, _, _, _, h1, h2, h3, h4, h5, Or.inr ⟨e, q, rfl, h6⟩⟩
def wi_ (x lo hi : Int32) : Bool := decide (lo ≤ x) && decide (x ≤ hi)
theorem wi_t {x lo hi : Int32} : wi_ x lo hi = true ↔ lo.toInt ≤ x.toInt ∧ x.toInt ≤ hi.toInt := by
  unfold wi_
  rw [Bool.and_eq_true, decide_eq_true_iff, decide_eq_true_iff, i_le, i_le]
theorem X1_in_l {x lo hi : Int32} : X1_in x lo hi = some (if wi_ x lo hi = true then 1 else 0) := by
  unfold X1_in wi_
  by_cases h1 : x < lo
  · rw [if_pos h1, decide_eq_false (by rw [i_le]; rw [i_lt] at h1; omega)]
    rfl
  · rw [if_neg h1, decide_eq_true (by rw [i_le]; rw [i_lt] at h1; omega)]
    by_cases h2 : hi < x
    · rw [if_pos h2, decide_eq_false (by rw [i_le]; rw [i_lt] at h2; omega)]
      rfl
    · rw [if_neg h2, decide_eq_true (by rw [i_le]; rw [i_lt] at h2; omega)]
      rfl
theorem X4_within_l {x lo hi : Int32} : X4_within x lo hi = some (if wi_ x lo hi = true then 1 else 0) := X1_in_l
theorem X4_right1 {c : Int32} {σ : MS} (h : m_I σ 0 = 0) : X4_right 1 c σ = some (1, σ) := by
  unfold X4_right X4_right_j16
  rw [if_pos h, if_neg (by decide), if_pos h]
theorem X4_right0 {c : Int32} {σ : MS} (h : m_I σ 0 = 0) (hc : c ≠ 0) : X4_right 0 c σ = some (0, s_I σ 0 c) := by
  unfold X4_right X4_right_j16
  rw [if_pos h, if_pos rfl, if_neg (by rw [rI_sI, if_pos rfl]; exact hc)]
theorem X1_oneOf_t {x hi : Int32} {g : GS} (h : wi_ x 0 hi = true) : X1_oneOf x hi g = some ((.inl (), g), 0, 0) := by
  unfold X1_oneOf X1_found
  rw [X1_in_l, if_pos h, e_ob, if_neg (by decide), e_tcl, e_b0]
theorem X1_oneOf_f {x hi : Int32} {g : GS} (h : wi_ x 0 hi = false) : X1_oneOf x hi g = some ((.inr (1, gz g), g), 1, 6) := by
  unfold X1_oneOf X1_found
  rw [X1_in_l, h, e_ob]
  rfl
theorem X4_isWhat_t {x hi : Int32} {σ : MS} (h0 : m_I σ 0 = 0) (h : wi_ x 0 hi = true) : X4_isWhat x hi σ = some (1, σ) := by
  unfold X4_isWhat
  rw [X4_within_l, if_pos h, e_ob, X4_right1 h0, e_cb]
  rfl
theorem X4_isWhat_f {x hi : Int32} {σ : MS} (h0 : m_I σ 0 = 0) (h : wi_ x 0 hi = false) : X4_isWhat x hi σ = some (0, s_I σ 0 1) := by
  unfold X4_isWhat
  rw [X4_within_l, h, e_ob]
  show cb_ (X4_right 0 1 σ) _ = _
  rw [X4_right0 h0 (by decide), e_cb]
  rfl
theorem X1_right_t {g : GS} : X1_right 1 g = some ((.inl (), g), 0, 0) := rfl
theorem X1_right_f {g : GS} : X1_right 0 g = some ((.inr (2, gz g), g), 1, 6) := rfl
theorem X1_found_t {g : GS} : X1_found 1 g = some ((.inl (), g), 0, 0) := rfl
theorem X1_found_f {g : GS} : X1_found 0 g = some ((.inr (1, gz g), g), 1, 6) := rfl
theorem s0_0 {σ : MS} {c : Int32} : m_I (s_I σ 0 c) 0 = c := rfl
theorem s0_eq {σ : MS} {c : Int32} : MEq σ (s_I σ 0 c) := (Mf.sI (LI := [0]) (LA := []) (by decide)).eq (by decide) (by decide)
/-- a question's end -/
theorem RelP.q {a o sc v n k h x m T : Nat} {g g' : GS} {ρ ρ' : Nat → Nat} {σ σ' : MS} (hp : RelP a o sc v n k h x m T g ρ σ) (hF : Fr (fun q => q = v) g g') (hA : Ag g ρ ρ') (hM : MEq σ σ') : Rel a o g' σ' := by
  have hC := hp.1.1
  have hva : a ≠ v := by
    intro q
    have h1 := hC.1.1
    have h2 := hC.2.1.1
    rw [q, h2] at h1
    omega
  refine ⟨ρ', sc, v, n, k, h, x, m, T, hp.to hF hA (fun q _ k => ?_) (fun i => hF.R hC.1.2.2.1 hva i) (fun i _ => hF.I hC.1.2.2.1 hva i) hM⟩
  rw [k]
  exact Or.inr (Or.inl hC.2.1.2.2.1)
theorem RelP.r {a o sc v n k h x m T : Nat} {g : GS} {ρ : Nat → Nat} {σ σ' : MS} (hp : RelP a o sc v n k h x m T g ρ σ) (hM : MEq σ σ') : Rel a o g σ' := hp.q Fr.rf Ag.rf hM
theorem RelP.m {a o sc v n k h x m T : Nat} {g : GS} {ρ : Nat → Nat} {σ σ' : MS} (hp : RelP a o sc v n k h x m T g ρ σ) (hM : MEq σ σ') : RelP a o sc v n k h x m T g ρ σ' := hp.to (W := no_) Fr.rf Ag.rf (fun _ _ k => k.elim) (fun _ => rfl) (fun _ _ => rfl) hM
theorem Rel.sk {a o : Nat} {g : GS} {σ : MS} {n : Nat} (h : Rel a o g σ) : Rel a o (sk_ g n) σ := by
  obtain ⟨ρ, sc, v, n, k, h, x, m, T, hp⟩ := h
  exact hp.q Fr.sk Ag.rf MEq.rf
theorem Rel.out {a o i : Nat} {g : GS} {σ : MS} {w : Int32} (h : Rel a o g σ) : Rel a o (pI g o i w) σ := by
  obtain ⟨ρ, sc, v, n, k, h, x, m, T, hp⟩ := h
  have ho : ρ o = 50 := hp.2.2.2.2.2.2.2.2.2.2.2.2.2.1
  have ha : ρ a = 1 := hp.1.1.1.2.1
  have hoa : a ≠ o := by intro q; rw [q, ho] at ha; omega
  exact ⟨ρ, sc, v, n, k, h, x, m, T, hp.to (W := fun q => q = o) (Fr.pI rfl) Ag.rf (fun q _ k => by rw [k, ho]; exact Or.inr (Or.inr (by omega))) (fun _ => rfl) (fun j _ => by rw [I_pI, if_neg (by rintro ⟨q, -⟩; exact hoa q)]) MEq.rf⟩
/-! a take is made -/
theorem tkinit {g : GS} {ρ : Nat → Nat} {a sc v n k h u s r m : Nat} {σ : MS} (hC : CW g ρ a sc v n k h σ) (hS : StP g ρ r s m h σ) (hu : gK g u = 10 ∧ ρ u = 9 ∧ u < gz g) (hn : TnP g u σ) :
    ∃ g', X11_init u a s g = some (((), g'), 3, 1803) ∧ TW g' (nr ρ g 9) a sc v u s (gz g) (gz g + 1) (gz g + 2) r m n k h σ ∧ Fr (fun q => q = u) g g' ∧ gz g' = gz g + 3 := by
  obtain ⟨u1, u2, u3⟩ := hu
  obtain ⟨g1, e1⟩ : ∃ g1, g1 = nw_ (pR g u 7 (a + 1)) 100 601 := ⟨_, rfl⟩
  obtain ⟨g2, e2⟩ : ∃ g2, g2 = nw_ (pR g1 u 1 (gz g + 1)) 100 601 := ⟨_, rfl⟩
  obtain ⟨g3, e3⟩ : ∃ g3, g3 = nw_ (pR g2 u 2 (gz g + 1 + 1)) 100 601 := ⟨_, rfl⟩
  have z1 : gz g1 = gz g + 1 := by rw [e1]; rfl
  have z2 : gz g2 = gz g + 2 := by rw [e2, z_nw, z_pR, z1]
  have z3 : gz g3 = gz g + 3 := by rw [e3, z_nw, z_pR, z2]
  have F1 : Fr (fun q => q = u) g g1 := by rw [e1]; exact (Fr.pR (W := fun q => q = u) rfl).trans (Fr.nw (W := fun q => q = u)) (fun _ _ k => k)
  have F2 : Fr (fun q => q = u) g1 g2 := by rw [e2]; exact (Fr.pR (W := fun q => q = u) rfl).trans (Fr.nw (W := fun q => q = u)) (fun _ _ k => k)
  have F3 : Fr (fun q => q = u) g2 g3 := by rw [e3]; exact (Fr.pR (W := fun q => q = u) rfl).trans (Fr.nw (W := fun q => q = u)) (fun _ _ k => k)
  obtain ⟨g4, e4⟩ : ∃ g4, g4 = pR (pR g3 u 3 (gz g + 2 + 1)) u 0 (s + 1) := ⟨_, rfl⟩
  have F4 : Fr (fun q => q = u) g3 g4 := by rw [e4]; exact (Fr.pR (W := fun q => q = u) rfl).trans (Fr.pR (W := fun q => q = u) rfl) (fun _ _ k => k)
  have z4 : gz g4 = gz g + 3 := by rw [e4]; exact z3
  have F : Fr (fun q => q = u) g g4 := ((F1.trans F2 (fun _ _ k => k)).trans F3 (fun _ _ k => k)).trans F4 (fun _ _ k => k)
  have k1 : gK g1 u = 10 := by rw [F1.K u3, u1]
  have k2 : gK g2 u = 10 := by rw [F2.K (by omega), k1]
  have k3 : gK g3 u = 10 := by rw [F3.K (by omega), k2]
  have r4 : gR g4 u 0 = s + 1 ∧ gR g4 u 1 = gz g + 1 ∧ gR g4 u 2 = gz g + 1 + 1 ∧ gR g4 u 3 = gz g + 2 + 1 ∧ gR g4 u 7 = a + 1 := by
    have ne1 : ¬ u = gz g := by omega
    have ne2 : ¬ u = gz g + 1 := by omega
    have ne3 : ¬ u = gz g + 2 := by omega
    rw [e4, e3, e2, e1]
    simp only [R_pR, R_nw, z_pR, z_nw, ne1, ne2, ne3, if_false, true_and]
    exact ⟨rfl, rfl, rfl, rfl, rfl⟩
  have a1 : gK g4 (gz g) = 100 ∧ gN g4 (gz g) = 601 := by
    rw [F4.K (by omega), F4.N (by omega), F3.K (by omega), F3.N (by omega), F2.K (by omega), F2.N (by omega), e1, K_nw, N_nw, if_pos (by rw [z_pR]), if_pos (by rw [z_pR])]
    exact ⟨rfl, rfl⟩
  have a2 : gK g4 (gz g + 1) = 100 ∧ gN g4 (gz g + 1) = 601 := by
    rw [F4.K (by omega), F4.N (by omega), F3.K (by omega), F3.N (by omega), e2, K_nw, N_nw, if_pos (by rw [z_pR, z1]), if_pos (by rw [z_pR, z1])]
    exact ⟨rfl, rfl⟩
  have a3 : gK g4 (gz g + 2) = 100 ∧ gN g4 (gz g + 2) = 601 := by
    rw [F4.K (by omega), F4.N (by omega), e3, K_nw, N_nw, if_pos (by rw [z_pR, z2]), if_pos (by rw [z_pR, z2])]
    exact ⟨rfl, rfl⟩
  have hC0 := hC
  obtain ⟨⟨c1, c2, c3, c4, c5⟩, -⟩ := hC0
  have hau : ¬ a = u := by intro q; rw [q, u1] at c1; omega
  obtain ⟨⟨r6, r9⟩, hSt, hm, hR⟩ := hS
  have eI : ∀ i, gI g4 u i = gI g u i := by
    intro i
    have ne1 : ¬ u = gz g := by omega
    have ne2 : ¬ u = gz g + 1 := by omega
    have ne3 : ¬ u = gz g + 2 := by omega
    rw [e4, e3, e2, e1]
    simp only [I_pR, I_nw, z_pR, z_nw, ne1, ne2, ne3, if_false]
  refine ⟨g4, ?_, ⟨hC.to F nr_ag (fun q _ k k' => by rw [k', u2] at k; omega) ⟨F.R c3 hau 0, F.R c3 hau 2⟩ (LI := []) (LA := []) Mf.rf (by decide) (by decide), ⟨⟨by rw [F.K u3, u1], by rw [nr_lt u3, u2], by omega⟩, r4, ⟨⟨a1.1, a1.2, nr_ge (Nat.le_refl _), by omega⟩, ⟨a2.1, a2.2, nr_ge (by omega), by omega⟩, ⟨a3.1, a3.2, nr_ge (by omega), by omega⟩⟩, by omega, by omega, by omega⟩, ?_, ⟨r6, r9⟩, hSt.to F nr_ag (fun q _ k k' => by rw [k', u2] at k; omega), hm, hR⟩, F, z4⟩
  · unfold X11_init
    rw [e_wk u1, e_na (by decide), e_al]
    rw [show (601 : Int32).toNatClampNeg = 601 from rfl, z_pR, ← e1, e_wk k1, e_na (by decide), e_al]
    rw [z_pR, z1, ← e2, e_wk k2, e_na (by decide), e_al]
    rw [z_pR, z2, ← e3, e_wk k3, ← e4]
    rfl
  · unfold TnP
    rw [eI, eI, eI]
    exact hn
theorem TnP0 {g : GS} {u : Nat} {σ : MS} (h : ZeP σ) (h4 : gI g u 4 = 0) (h5 : gI g u 5 = 0) (h6 : gI g u 6 = 0) : TnP g u σ := by
  obtain ⟨z1, z2, z3⟩ := h
  unfold TnP
  rw [h4, h5, h6, z1, z2, z3]
  decide
/-- a new take over the settings in force -/
theorem newtake {a o sc v n k h x m T : Nat} {g : GS} {ρ : Nat → Nat} {σ : MS} (hp : RelP a o sc v n k h x m T g ρ σ) :
    ∃ g', X11_init (gz g) a x (nw_ g 10 8) = some (((), g'), 3, 1803) ∧ TW g' (nr ρ g 9) a sc v (gz g) x (gz g + 1) (gz g + 2) (gz g + 3) 2 m n k h σ ∧ Fr no_ g g' ∧ gz g' = gz g + 4 := by
  obtain ⟨⟨hC, -, -⟩, ⟨n1, n2, n3, n4⟩, hZ, -⟩ := hp
  have F : Fr no_ g (nw_ g 10 8) := Fr.nw
  have hA : Ag g ρ (nr ρ g 9) := nr_ag
  have hC' : CW (nw_ g 10 8) (nr ρ g 9) a sc v n k h σ := by
    have ha := hC.1.2.2.1
    exact hC.to F hA (fun _ _ _ k => k) ⟨F.R ha (fun k => k) 0, F.R ha (fun k => k) 2⟩ (LI := []) (LA := []) Mf.rf (by decide) (by decide)
  obtain ⟨g', a1, a2, a3, a4⟩ := tkinit (u := gz g) hC' ⟨⟨by omega, by omega⟩, n2.to F hA (fun _ _ _ k => k), n3, n4⟩ ⟨by rw [K_nw, if_pos rfl], nr_ge (Nat.le_refl _), by rw [z_nw]; omega⟩ (TnP0 hZ (by rw [I_nw, if_pos rfl]) (by rw [I_nw, if_pos rfl]) (by rw [I_nw, if_pos rfl]))
  rw [nr_nr (by rw [z_nw]; omega), z_nw] at a2
  exact ⟨g', a1, a2, F.trans a3 (fun q hq k => by omega), by rw [a4, z_nw]⟩
/-- take() -/
theorem take_l {a o sc v n k h x m T : Nat} {g : GS} {ρ : Nat → Nat} {σ : MS} (hp : RelP a o sc v n k h x m T g ρ σ) :
    ∃ g' σ', X1_take a g = some ((gz g, g'), 4, 1811) ∧ X4_goesThrough σ = some σ' ∧ AR g' (nr ρ g 9) a sc v (gz g) x (gz g + 1) (gz g + 2) (gz g + 3) 2 m n k h T σ' ∧ Fr (fun q => q = v) g g' ∧ gz g < gz g' ∧ Mf [] [57, 58, 61, 62, 63] σ σ' := by
  obtain ⟨g1, a1, a2, a3, a4⟩ := newtake hp
  have hR1 := hp.2.1.1
  have hC := hp.1.1
  have ha3 := hC.1.2.2.1
  obtain ⟨g2, σ2, b1, b2, b3, b4, b5, b6⟩ := run_l a2
  obtain ⟨-, hs1, hs2⟩ := hp.1
  have hT : (sm_ (m_A σ 9) n).toInt.toNat + 1 = T + 1 := by rw [hs1, i_n (by omega)]; omega
  rw [hT] at b6
  have hav : ¬ a = gz g := by omega
  have hu10 := a2.2.1.1.1
  refine ⟨g2, σ2, ?_, b2, ⟨a2.to b3 b5, b6, by rw [b5.Af (by decide)]; exact hs1, hs2⟩, ?_, by omega, b5⟩
  · unfold X1_take
    rw [e_al, e_wk (by rw [K_nw, if_neg hav]; exact hC.1.1), R_nw, if_neg hav, hR1, e_nn, a1, e_ca, e_wk hu10, b1, e_cb]
    rfl
  · refine (a3.mono (W' := fun q => q = v) (fun _ _ k => k.elim)).trans b3 (fun q hq k => ?_)
    rcases k with k | k | k | k
    · exact k
    · omega
    · omega
    · omega
