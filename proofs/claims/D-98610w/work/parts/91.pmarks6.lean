/-! LAWS: marks (own work) -/
set_option maxRecDepth 100000
theorem nums_l {σ : MS} {k : Nat} (mo : Int32) (hk : k ≤ 3) : ∃ σ', lp_ (fun a : Int32 × MS => X4_marks_b94 (nI k) mo a.1 a.2) fu_ (0, σ) = some σ' ∧ Mf [] [72] σ σ' ∧ ∀ i, i < k → m_A σ' 72 i = nI i := by
  obtain ⟨e, m1, m2⟩ := lp_t (body := fun a : Int32 × MS => X4_marks_b94 (nI k) mo a.1 a.2)
    (I := fun m a => ∃ t, a.1 = nI t ∧ t ≤ k ∧ m = k - t ∧ Mf [] [72] σ a.2 ∧ ∀ i, i < t → m_A a.2 72 i = nI i)
    (Q := fun e => Mf [] [72] σ e ∧ ∀ i, i < k → m_A e 72 i = nI i)
    (by
      rintro m ⟨x3, σ1⟩ ⟨t, e1, e2, e3, e4, e6⟩
      simp only at e1 e4 e6 ⊢
      subst e1
      unfold X4_marks_b94
      by_cases ht : t < k
      · rw [if_neg (nI_ge ht (by omega)), e_inN (by omega) (by omega), nI_clamp (by omega), nI_1]
        refine Or.inl ⟨_, m - 1, by omega, rfl, t + 1, rfl, by omega, by omega, e4.trans (Mf.sA (LI := []) (LA := [72]) (by decide)) (fun _ k => k) (fun _ k => k), fun i hi => ?_⟩
        rw [rA_sA]
        by_cases q : i = t
        · rw [if_pos ⟨rfl, q⟩, q]
        · rw [if_neg (by rintro ⟨-, k⟩; omega), e6 i (by omega)]
      · rw [if_pos (nI_le (by omega) (by omega))]
        exact Or.inr ⟨_, rfl, e4, fun i hi => e6 i (by omega)⟩)
    fu_ k (0, σ) ⟨0, rfl, by omega, rfl, Mf.rf, fun i hi => by omega⟩ (by unfold fu_; omega)
  exact ⟨e, m1, m2⟩
/-- Chalks is made -/
theorem chalks_l {a o sc v n kk h x m T : Nat} {g : GS} {ρ : Nat → Nat} {σ : MS} (x1 : Int32) (hp : RelP a o sc v n kk h x m T g ρ σ) :
    ∃ g7 ρ7 dc ds σ1 σ2 ps P u x' sa ra oa lm zs, X12_init (gz g) a (nw_ g 11 5) = some (((), g7), dc, ds) ∧ X4_addsSpot (m_I σ 1) (s_I σ 69 0) = some σ1 ∧ lp_ (fun a : Int32 × MS => X4_marks_b36 x1 a.1 a.2) fu_ (0, σ1) = some σ2 ∧ Mf [69] [71] σ σ2 ∧ ps.length ≤ 13 ∧ TW g7 ρ7 a sc v u x' sa ra oa 10 m n kk h σ2 ∧ gR g7 x' 6 = lm + 1 ∧ LiP g7 ρ7 10 lm zs ∧ PlcP g7 ρ7 P ps σ2 ∧ EnvP g7 ρ7 ∧ (∀ k', GK g7 ρ7 (gz g) P u k' (-1) σ2) ∧ Fr (fun q => 9 ≤ ρ q) g g7 ∧ Ag g ρ ρ7 ∧ dc ≤ 120 ∧ ds ≤ 3200 := by
  have ha := hp.1.1.1
  have hE := hp.2.2.2.2.2.2.2.2.2.2.1
  have hSc := hp.1.1.2.2.2
  obtain ⟨g1, hg1⟩ : ∃ g1, g1 = pR (nw_ g 11 5) (gz g) 4 (a + 1) := ⟨_, rfl⟩
  have F1 : Fr no_ g g1 := by rw [hg1]; exact (Fr.nw (W := no_)).trans (Fr.pR (W := fun q => q = gz g) rfl) (fun q hq k => by omega)
  have z1 : gz g1 = gz g + 1 := by rw [hg1]; rfl
  have hA1 : Ag g ρ (nr ρ g 13) := nr_ag
  have hE1 : EnvP g1 (nr ρ g 13) := hE.to F1 hA1 (fun _ _ _ k => k)
  have hS1 : ScP g1 (nr ρ g 13) sc n kk h σ := hSc.to (LI := []) (LA := []) F1 (fun q hq k => by rw [hA1 q hq, k]) (fun _ _ _ k => k) Mf.rf (by decide) (by decide)
  obtain ⟨g2, ρ2, dc1, ds1, σ1, σ2, ps, b1, b2, b3, b4, b5, b6, b7, b8, b9, b10, b11⟩ := places_l x1 hS1 hE1
  have hc9 : nr ρ g 13 (gz g) = 13 := nr_ge (Nat.le_refl _)
  have lc1 : gz g < gz g1 := by rw [z1]; exact Nat.lt_succ_self _
  have hc9w : ¬ nr ρ g 13 (gz g) = 11 := by rw [hc9]; decide
  obtain ⟨g3, hg3⟩ : ∃ g3, g3 = pR g2 (gz g) 0 (gz g1 + 1) := ⟨_, rfl⟩
  have F23 : Fr (fun q => q = gz g) g2 g3 := by rw [hg3]; exact Fr.pR rfl
  have lc2 : gz g < gz g2 := b4.lt lc1
  have hr2 : ρ2 (gz g) = 13 := by rw [b5 _ lc1, hc9]
  have F3 : Fr (fun q => 9 ≤ ρ q) g g3 := ((F1.mono (fun _ _ k => k.elim)).trans b4 (fun q hq k => by rw [nr_lt hq] at k; rw [k]; decide)).trans F23 (fun q hq k => by omega)
  have hA3 : Ag g ρ ρ2 := hA1.trans b5 F1.z
  have ha9 : ¬ 9 ≤ ρ a := by rw [ha.2.1]; decide
  have hp3 : RelP a o sc v n kk h x m T g3 ρ2 σ2 := hp.to F3 hA3 (fun q _ k => Or.inr (Or.inr k)) (fun i => F3.R ha.2.2.1 ha9 i) (fun i _ => F3.I ha.2.2.1 ha9 i) (b8.eq (by decide) (by decide))
  have hP3 : PlcP g3 ρ2 (gz g1) ps σ2 := b6.to F23 Ag.rf (fun q _ k k2 => by rw [k2, hr2] at k; omega) rfl rfl
  obtain ⟨g4, g5, ρ5, dc2, ds2, t1, t2, t3, t4, t5, t6, t7, t8, t9, t10⟩ := newtakec hp3
  obtain ⟨g6, hg6⟩ : ∃ g6, g6 = pI (pR g5 (gz g) 1 (gz g3 + 1)) (gz g) 3 (-1) := ⟨_, rfl⟩
  have F56 : Fr (fun q => q = gz g) g5 g6 := by rw [hg6]; exact (Fr.pR (W := fun q => q = gz g) rfl).trans (Fr.pI (W := fun q => q = gz g) rfl) (fun _ _ k => k)
  have lc3 : gz g < gz g3 := F23.lt lc2
  have lc5 : gz g < gz g5 := t5.lt lc3
  have hr5 : ρ5 (gz g) = 13 := by rw [t6 _ lc3, hr2]
  have hcr : ∀ r, r ≠ 13 → ∀ q, ρ5 q = r → ¬ q = gz g := fun r hr q k k2 => by rw [k2, hr5] at k; exact hr k.symm
  obtain ⟨hC, hK, hTn, hrr, hS, hm, hR⟩ := id t3
  have hur : ρ5 (gz g3) = 9 := hK.1.2.1
  have huc : ¬ gz g3 = gz g := hcr 9 (by decide) _ hur
  have hxc : ¬ gz g3 + 1 = gz g := hcr 10 (by decide) _ hS.2.1
  have hT6 : TW g6 ρ5 a sc v (gz g3) (gz g3 + 1) (gz g4) (gz g4 + 1) (gz g4 + 2) 10 m n kk h σ2 := by
    refine ⟨hC.to F56 Ag.rf (fun q _ k => hcr 0 (by decide) q k) ⟨F56.R hC.1.2.2.1 (hcr 1 (by decide) a hC.1.2.1) 0, F56.R hC.1.2.2.1 (hcr 1 (by decide) a hC.1.2.1) 2⟩ (LI := []) (LA := []) Mf.rf (by decide) (by decide), hK.to F56 Ag.rf (fun i => F56.R hK.1.2.2 huc i), ?_, hrr, hS.to F56 Ag.rf (fun q _ k => k.elim (hcr 10 (by decide) q) (hcr 0 (by decide) q)), hm, hR⟩
    obtain ⟨⟨n1, n1'⟩, ⟨n2, n2'⟩, n3, n3'⟩ := hTn
    exact ⟨⟨by rw [F56.I hK.1.2.2 huc, n1], n1'⟩, ⟨by rw [F56.I hK.1.2.2 huc, n2], n2'⟩, by rw [F56.I hK.1.2.2 huc, n3], n3'⟩
  obtain ⟨-, -, xlt, -, lm, zs, l1, l2, l3, l4⟩ := id hT6.2.2.2.2.1
  have F36 : Fr (fun q => q = gz g) g3 g6 := (t5.mono (fun _ _ k => k.elim)).trans F56 (fun _ _ k => k)
  have hE3 : EnvP g3 ρ2 := hp3.2.2.2.2.2.2.2.2.2.2.1
  have hcr2 : ∀ r, r ≠ 13 → ∀ q, ρ2 q = r → ¬ q = gz g := fun r hr q k k2 => by rw [k2, hr2] at k; exact hr k.symm
  have k1 : gK g1 (gz g) = 11 := by rw [hg1, K_pR, K_nw, if_pos rfl]
  have k2 : gK g2 (gz g) = 11 := by rw [b4.K lc1, k1]
  have k3 : gK g3 (gz g) = 11 := by rw [F23.K lc2, k2]
  have k5 : gK g5 (gz g) = 11 := by rw [t5.K lc3, k3]
  have r1 : ∀ i, gR g1 (gz g) i = if i = 4 then a + 1 else 0 := fun i => by
    rw [hg1, R_pR, R_nw, if_pos rfl]
    by_cases q : i = 4
    · rw [if_pos ⟨rfl, q⟩, if_pos q]
    · rw [if_neg (by rintro ⟨-, k⟩; exact q k), if_neg q]
  have r2 : ∀ i, gR g2 (gz g) i = if i = 4 then a + 1 else 0 := fun i => by rw [b4.R lc1 hc9w, r1]
  have r3 : ∀ i, gR g3 (gz g) i = if i = 0 then gz g1 + 1 else if i = 4 then a + 1 else 0 := fun i => by
    rw [hg3, R_pR, r2]
    by_cases q : i = 0
    · rw [if_pos ⟨rfl, q⟩, if_pos q]
    · rw [if_neg (by rintro ⟨-, k⟩; exact q k), if_neg q]
  have r6 : ∀ i, gR g6 (gz g) i = if i = 1 then gz g3 + 1 else if i = 0 then gz g1 + 1 else if i = 4 then a + 1 else 0 := fun i => by
    rw [hg6, R_pI, R_pR, t5.R lc3 (fun k => k), r3]
    by_cases q : i = 1
    · rw [if_pos ⟨rfl, q⟩, if_pos q]
    · rw [if_neg (by rintro ⟨-, k⟩; exact q k), if_neg q]
  have hGK : ∀ k', GK g6 ρ5 (gz g) (gz g1) (gz g3) k' (-1) σ2 := by
    intro k'
    refine ⟨⟨by rw [F36.K lc3, k3], hr5, F56.lt lc5, ?_, ?_, ?_⟩, Or.inl ⟨rfl, ?_⟩⟩
    · rw [r6, if_neg (by decide), if_pos rfl]
    · rw [r6, if_pos rfl]
    · rw [hg6, I_pI, if_pos ⟨rfl, rfl⟩]
    · rw [r6, if_neg (by decide), if_neg (by decide), if_neg (by decide)]
  refine ⟨g6, ρ5, 0 + 3 + dc2 + 1 + dc1, 0 + 1803 + ds2 + 8 + ds1, σ1, σ2, ps, gz g1, gz g3, gz g3 + 1, gz g4, gz g4 + 1, gz g4 + 2, lm, zs, ?_, b2, b3, b8, b7, hT6, l1, l2, hP3.to F36 t6 (fun q _ k => k.elim (hcr2 11 (by decide) q) (hcr2 0 (by decide) q)) rfl rfl, hE3.to F36 t6 (fun q _ k => hcr2 0 (by decide) q k), hGK, F3.trans F36 (fun q hq k => by omega), hA3.trans t6 F3.z, by omega, by omega⟩
  have kg : gK (nw_ g 11 5) (gz g) = 11 := by rw [K_nw, if_pos rfl]
  have la1 : a < gz g1 := F1.lt ha.2.2.1
  have la3 : a < gz g3 := F3.lt ha.2.2.1
  have haz : ¬ a = gz g3 := by omega
  have hcz3 : ¬ gz g = gz g3 := by omega
  unfold X12_init
  rw [e_wk kg, ← hg1, r1, if_pos rfl, e_nn, e_wk (by rw [F1.K ha.2.2.1, ha.1]), F1.R ha.2.2.1 (fun k => k), ha.2.2.2.1, e_nn, e_wk hS1.1.1, b1, e_ca, e_wk k2, ← hg3, e_al]
  have k4 : gK (nw_ g3 10 8) (gz g) = 11 := by rw [K_nw, if_neg hcz3, k3]
  have ka4 : gK (nw_ g3 10 8) a = 1 := by rw [K_nw, if_neg haz, hp3.1.1.1.1]
  have kx4 : gK (nw_ g3 10 8) x = 3 := by
    have := hp3.2.1.2.1
    rw [K_nw, if_neg (by have := this.2.2.1; omega), this.1]
  rw [e_wk k4, R_nw, if_neg hcz3, r3, if_neg (by decide), if_pos rfl, e_nn, e_nn, e_wk ka4, R_nw, if_neg haz, hp3.2.1.1, e_nn, e_wk kx4, t1, e_ca, t2, e_ca, e_wk k5, ← hg6, e_bp, e_bp, e_bp, e_bp]
theorem op_marks {a o : Nat} {g : GS} {σ : MS} (hr : Rel a o g σ) (x1 : Int32) : OpT [(2, 1)] a o (X1_marks a x1 g) (X4_marks x1 σ) := by
  obtain ⟨ρ, sc, v, n, kk, h, x, m, T, hp⟩ := hr
  have hp0 := hp.m (s0_eq (c := 0))
  have ha := hp.1.1.1
  unfold X1_marks X4_marks
  rw [X1_in_l, X4_within_l, e_ob, e_ob]
  cases hw : wi_ x1 0 3 with
  | false =>
    refine OpT.ex (e := 2) (q := gz g) (r := 0) (g' := g) (σ' := s_I (s_I σ 0 0) 0 1) (dc := 1) (ds := 6) ?_ ?_ (hp0.r s0_eq) (by omega) (by omega) (List.mem_cons_self)
    · rw [if_neg (show ¬ (false = true) by decide), X1_right_f, e_tcr, e_b0]
    · rw [if_neg (show ¬ (false = true) by decide), X4_right0 s0_0 (by decide), e_cb, if_pos rfl]
  | true =>
    obtain ⟨w1, w2⟩ := wi_t.mp hw
    have k3 : ((3 : Int32)).toInt = 3 := by decide
    rw [k_0] at w1
    rw [k3] at w2
    obtain ⟨k, rfl, hk2, -⟩ := i_nat w1
    have hk : k ≤ 3 := by omega
    rw [if_pos rfl, X1_right_t, e_tcl, bp_0, X4_right1 s0_0, e_cb, if_neg nn01]
    obtain ⟨g7, ρ7, dc1, ds1, σ1, σ2, ps, P, u, x', sa, ra, oa, lm, zs, b1, b2, b3, b4, b5, b6, b7, b8, b9, b10, b11, b12, b13, b14, b15⟩ := chalks_l (nI k) hp0
    rw [b2, e_ob, b3, e_ob]
    obtain ⟨hC, hK, hTn, hrr, hS, ⟨hm, hm6⟩, hR⟩ := id b6
    obtain ⟨⟨c1, c2, c3, c4, c5, c6⟩, -⟩ := id (b11 k)
    -- the list is emptied
    obtain ⟨e, he⟩ := b8
    obtain ⟨g8, d1, d2, d3, d4⟩ := J2_clear_l he
    have F78 : Fr (fun q => ρ7 q = 10) g7 g8 := he.fr d3
    have hx7 : ¬ (x' = lm ∨ (x' = e ∧ gK g7 e = 103)) := by
      rintro (q | ⟨q, q2⟩)
      · have := he.1
        rw [← q, hS.1] at this
        cases this
      · rw [← q, hS.1] at q2
        cases q2
    have hpre : (al_ g 11 5 fun u9 g10 => ca_ (X12_init u9 a g10) fun r15 g14 => wk_ g14 u9 11 <| nn_ (gR g14 u9 1) fun b19 => wk_ g14 b19 10 <| nn_ (gR g14 b19 0) fun b22 => wk_ g14 b22 3 <| nn_ (gR g14 b22 6) fun b25 => wk_ g14 b25 12 <| ob_ (J2_clear b25 g14) fun g29 => wk_ g29 u9 11 <| ca_ (X12_go u9 0 (nI k) g29) fun r33 g32 => wk_ g32 u9 11 <| if (gR g32 u9 2) = 0 then X1_marks_j54 u9 g32 else nn_ (gR g32 u9 2) fun b39 => wk_ g32 a 1 <| X1_marks_j54 u9 (pR g32 a 10 (b39 + 1))) = bp_ 1 5 (bp_ dc1 ds1 (ca_ (X12_go (gz g) 0 (nI k) g8) fun r33 g32 => wk_ g32 (gz g) 11 <| if (gR g32 (gz g) 2) = 0 then X1_marks_j54 (gz g) g32 else nn_ (gR g32 (gz g) 2) fun b39 => wk_ g32 a 1 <| X1_marks_j54 (gz g) (pR g32 a 10 (b39 + 1)))) := by
      rw [e_al, b1, e_ca, e_wk c1, c5, e_nn, e_wk hK.1.1, hK.2.1.1, e_nn, e_wk hS.1, b7, e_nn, e_wk he.1, d1, e_ob, e_wk (by rw [d3.K c3, c1])]
    rw [hpre]
    have hL8 : LiP g8 ρ7 10 lm [] := ⟨e, d2⟩
    have hGK8 : ∀ σ', m_A σ' 70 = m_A σ2 70 → GK g8 ρ7 (gz g) P u k (-1) σ' := fun σ' h70 => (b11 k).to F78 Ag.rf (fun q _ k => ⟨by rw [k]; decide, by rw [k]; decide⟩) h70
    have F8 : Fr (fun q => ρ q = 6 ∨ 9 ≤ ρ q) g g8 := (b12.mono (fun _ _ k => Or.inr k)).trans F78 (fun q hq k => by rw [b13 q hq] at k; exact Or.inr (by rw [k]; decide))
    have hnoa : ¬ (ρ a = 6 ∨ 9 ≤ ρ a) := by rw [ha.2.1]; decide
    by_cases hkc : nI k ≤ m_I σ2 69
    · rw [if_pos hkc]
      have hkl : k ≤ ps.length := by
        rw [b9.2.2.1, i_le, i_n (by omega), i_n (by omega)] at hkc
        omega
      obtain ⟨σ3, s1, s2, s3⟩ := copies_l (σ := σ2) (a1 := 53) (a2 := 54) (L := 12) rfl rfl rfl rfl (by omega) (by omega) (by decide)
      obtain ⟨σ4, t1, t2, t3⟩ := nums_l (σ := s_I σ3 4 (nI k)) (m_I σ3 4) hk
      rw [s1, e_ob, t1, e_ob]
      have hM24 : Mf [4] [54, 72] σ2 σ4 := (((Mf.rf (LI := [4]) (LA := [54, 72])).trans s2 (fun _ k => by cases k) (by decide)).trans (Mf.sI (LI := [4]) (LA := []) (by decide)) (fun _ k => k) (fun _ k => by cases k)).trans t2 (fun _ k => by cases k) (by decide)
      have e53 : m_A σ4 53 = m_A σ2 53 := hM24.Af (by decide)
      have hGC8 : GC g8 ρ7 a sc v n kk h T u x' sa ra oa lm P ps k σ4 := by
        have hCx : CW g8 ρ7 a sc v n kk h σ4 := hC.to F78 Ag.rf (fun q _ k k2 => by rw [k] at k2; cases k2) ⟨F78.R hC.1.2.2.1 (by rw [hC.1.2.1]; decide) 0, F78.R hC.1.2.2.1 (by rw [hC.1.2.1]; decide) 2⟩ hM24 (by decide) (by decide)
        have hu10 : ¬ ρ7 u = 10 := by rw [hK.1.2.1]; decide
        obtain ⟨x1', x2', x3', ⟨y0, y1, y2, y3, y4, y5⟩, -⟩ := id hS
        obtain ⟨⟨n1, n1'⟩, ⟨n2, n2'⟩, n3, n3'⟩ := hTn
        refine ⟨hCx, hK.to F78 Ag.rf (fun i => F78.R hK.1.2.2 hu10 i), ⟨⟨by rw [F78.I hK.1.2.2 hu10, n1, hM24.I (by decide)], by rw [hM24.I (by decide)]; exact n1'⟩, ⟨by rw [F78.I hK.1.2.2 hu10, n2, hM24.I (by decide)], by rw [hM24.I (by decide)]; exact n2'⟩, by rw [F78.I hK.1.2.2 hu10, n3, hM24.I (by decide)], by rw [hM24.I (by decide)]; exact n3'⟩, ⟨by rw [d3.K x3', x1'], x2', d3.lt x3', ?_, by rw [d3.R x3' hx7, b7]⟩, ⟨?_, hp.1.2.2⟩, ?_, ?_, b9.to F78 Ag.rf (fun q _ k k2 => by rw [k2] at k; omega) (hM24.I (by decide)) (hM24.Af (by decide)), b10.to F78 Ag.rf (fun q _ k k2 => by rw [k2] at k; cases k)⟩
        · rw [e53]
          exact ⟨by rw [d3.I x3' hx7, y0], by rw [d3.I x3' hx7, y1], by rw [d3.I x3' hx7, y2], by rw [d3.I x3' hx7, y3], by rw [d3.I x3' hx7, y4], by rw [d3.I x3' hx7, y5]⟩
        · rw [hM24.Af (by decide), b4.Af (by decide)]
          exact hp0.1.2.1
        · rw [t2.I (by decide)]; rfl
        · rw [e53]
          exact ⟨hR.1, hR.2.1, hR.2.2.1, hR.2.2.2.1, hR.2.2.2.2.1, hR.2.2.2.2.2.1, fun i hi => absurd hi (Nat.not_lt_zero _)⟩
      obtain ⟨g9, ρ9, dc2, ds2, σ5, b', fl, s, r1, r2, r3, r4, r5, r6, r7, r8, r9, r10, r11, r12, r13, r14⟩ := go_l (mo := m_I σ3 4) hk b5 k 0 5 (by omega) (by omega) 0 (fun _ => 0) [] g8 ρ7 (-1) σ4 (by omega) hGC8 (hGK8 σ4 (hM24.Af (by decide))) hL8 rfl (fun i y hy => by cases hy) (fun i hi => absurd hi (Nat.not_lt_zero _)) (fun i hi => absurd hi (Nat.not_lt_zero _)) (fun t ht => by rw [Nat.zero_add]; exact t3 t ht)
      have hfl : fl = 0 := r10
      subst hfl
      have h13 : 13 ^ k ≤ 2197 := by
        rcases (show k = 0 ∨ k = 1 ∨ k = 2 ∨ k = 3 by omega) with q | q | q | q <;> rw [q] <;> decide
      have hcst : gc_ k ≤ 6773 ∧ gs_ k ≤ 51246 := by
        rcases (show k = 0 ∨ k = 1 ∨ k = 2 ∨ k = 3 by omega) with q | q | q | q <;> rw [q] <;> decide
      have hloop : lp_ (fun a : Int32 × Int32 × MS => X4_marks_b117 (nI k) (m_I σ3 4) a.1 a.2.1 a.2.2) fu_ (-1, 1, σ4) = some (b', σ5) := by
        obtain ⟨f, hf⟩ : ∃ f, fu_ = (f + 1) + s := ⟨fu_ - 1 - s, by unfold fu_; omega⟩
        rw [hf, r2 (f + 1)]
        refine lp_end ?_ f
        show X4_marks_b117 (nI k) (m_I σ3 4) b' 0 σ5 = _
        unfold X4_marks_b117
        rw [if_pos rfl]
      have hloop' : lp_ (fun a : Int32 × Int32 × MS => X4_marks_b117 (nI k) (m_I σ3 4) a.1 a.2.1 a.2.2) fu_ (-1, 1, σ4) = some (b', σ5) := hloop
      obtain ⟨σ6, u1, u2, u3⟩ := copies_l (σ := s_I σ5 4 (m_I σ3 4)) (a1 := 54) (a2 := 53) (L := 12) rfl rfl rfl rfl (by omega) (by omega) (by decide)
      rw [hloop', e_ob, u1, e_ob]
      -- the best
      obtain ⟨⟨z1, z2, z3, z4, z5, z6⟩, hbest⟩ := r5
      obtain ⟨bl, bs, -, v1, v2, v3, v4⟩ : ∃ bl bs, 0 ≤ b'.toInt ∧ gR g9 (gz g) 2 = bl + 1 ∧ LiP g9 ρ9 0 bl bs ∧ bs.length = k ∧ IP g9 ρ9 bs (m_A σ5 70) := by
        rcases hbest with ⟨q, -⟩ | q
        · rw [q] at r12; exact absurd r12 (by decide)
        · exact q
      have hA9 : Ag g ρ ρ9 := b13.trans r8 F8.z
      have F9 : Fr (fun q => ρ q = 6 ∨ 9 ≤ ρ q) g g9 := F8.trans r7 (fun q hq k => by rw [b13 q hq] at k; exact k)
      have hp9 : RelP a o sc v n kk h x m T g9 ρ9 σ := hp.to F9 hA9 (fun q _ k => Or.inr k) (fun i => F9.R ha.2.2.1 hnoa i) (fun i _ => F9.I ha.2.2.1 hnoa i) MEq.rf
      have ha9 := hp9.1.1.1
      obtain ⟨g10, hg10⟩ : ∃ g10, g10 = pR g9 a 10 (bl + 1) := ⟨_, rfl⟩
      have F10 : Fr (fun q => q = a) g9 g10 := by rw [hg10]; exact Fr.pR rfl
      obtain ⟨σ7, hσ7⟩ : ∃ σ7, σ7 = s_I σ6 68 (nI k) := ⟨_, rfl⟩
      have hM02 : Mf [0, 4, 68, 69] [53, 54, 57, 58, 61, 62, 63, 70, 71, 72] σ σ2 := (Mf.sI (LI := [0, 4, 68, 69]) (LA := [53, 54, 57, 58, 61, 62, 63, 70, 71, 72]) (by decide)).trans b4 (by decide) (by decide)
      have hM : Mf [0, 4, 68, 69] [53, 54, 57, 58, 61, 62, 63, 70, 71, 72] σ σ7 := by
        rw [hσ7]
        exact ((((hM02.trans hM24 (by decide) (by decide)).trans r9 (fun _ k => by cases k) (by decide)).trans (Mf.sI (LI := [4]) (LA := []) (by decide)) (by decide) (fun _ k => by cases k)).trans u2 (fun _ k => by cases k) (by decide)).trans (Mf.sI (LI := [68]) (LA := []) (by decide)) (by decide) (fun _ k => by cases k)
      have i4 : m_I σ7 4 = m_I σ 4 := by
        rw [hσ7, rI_sI, if_neg (by decide), u2.I (by simp), rI_sI, if_pos rfl, s2.I (by simp), b4.I (by decide)]
        rfl
      have row : ∀ i, i < 12 → m_A σ7 53 i = m_A σ 53 i := fun i hi => by
        rw [hσ7, rA_sI, u3, if_pos hi, rA_sI, r9.A (by decide), t2.A (by decide), rA_sI, s3, if_pos hi, b4.A (by decide)]
        rfl
      have e70 : m_A σ7 70 = m_A σ5 70 := by rw [hσ7]; exact u2.Af (j := 70) (by decide)
      have m12 : ∀ i, i < 6 + m → i < 12 := fun i hi => by have := hp.2.1.2.2.1.2; omega
      have hna : ∀ r, r ≠ 1 → ∀ q, ρ9 q = r → ¬ q = a := fun r hr q k k2 => by rw [k2, ha9.2.1] at k; exact hr k.symm
      obtain ⟨B, N, Z, Ta, Re, Ac, Fi, Bo, Ke, Im, En, Ou⟩ := hp9.all (LR := [10]) (LJ := []) (D := [1]) F10 Ag.rf (fun r hr q _ k e => by
        rw [e, ha9.2.1] at k; exact hr (by simp [k])) (fun i hi => by rw [hg10, R_pR, if_neg (by rintro ⟨-, q⟩; exact hi (by simp [q]))]) (fun i _ => by rw [hg10, I_pR]) hM (by decide)
      have hNow : NowP g10 ρ9 a x m h σ7 := ⟨by rw [hg10, R_pR, if_neg (by rintro ⟨-, q⟩; cases q), hp9.2.1.1], (hp9.2.1.2.1.to F10 Ag.rf (fun q _ k => k.elim (hna 2 (by decide) q) (hna 0 (by decide) q))).congr (fun i hi => row i (m12 i hi)), ⟨by rw [i4]; exact hp.2.1.2.2.1.1, hp.2.1.2.2.1.2⟩, hp.2.1.2.2.2.congr (fun i hi => row i (m12 i hi))⟩
      have hAc : AcP g10 ρ9 3 a 7 m h (m_A σ7 53) (m_A σ7 55) (m_I σ7 56) := by
        rw [hM.Af (j := 55) (by decide), hM.I (k := 56) (by decide)]
        obtain ⟨l7, xs7, q1, q2, q3, q4, q5⟩ := hp9.2.2.2.2.2.1
        exact ⟨l7, xs7, by rw [hg10, R_pR, if_neg (by rintro ⟨-, q⟩; cases q), q1], q2.to F10 Ag.rf (fun q _ k => k.elim (hna 3 (by decide) q) (hna 0 (by decide) q)), q3, q4, (q5.to F10 Ag.rf (fun q _ k => hna 0 (by decide) q k)).congr (fun i hi => row i (m12 i hi)) (fun _ _ => rfl)⟩
      have hKe : KepP g10 ρ9 a σ7 := Or.inr ⟨bl, bs, by rw [hg10, R_pR, if_pos ⟨rfl, rfl⟩], v2.to F10 Ag.rf (fun q _ k => k.elim (hna 0 (by decide) q) (hna 0 (by decide) q)), by rw [hσ7, rI_sI, if_pos rfl, v3], by rw [v3]; exact hk, by rw [e70]; exact v4.to F10 Ag.rf (fun q _ k => hna 0 (by decide) q k)⟩
      have hz10 : ¬ gz g = a := by have := ha.2.2.1; omega
      refine OpT.ok (r := b') (g' := g10) (σ' := σ7) (dc := 0 + dc2 + dc1 + 1) (ds := 0 + ds2 + ds1 + 5) ?_ (by rw [hσ7]) ⟨ρ9, sc, v, n, kk, h, x, m, T, B (by decide), hNow, Z (by decide), Ta (by decide), Re (by decide), hAc, Fi (by decide), Bo (by decide), hKe, Im (by decide), En, Ou⟩ (by omega) (by omega) ?_
      · unfold X12_go
        rw [show (0 : Int32) = nI 0 from rfl, r1, e_ca, e_wk z1, if_neg (by omega), v1, e_nn, e_wk ha9.1, ← hg10]
        unfold X1_marks_j54
        rw [e_wk (by rw [hg10, K_pR, z1]), hg10, I_pR, z6, e_bp, e_bp, e_bp]
      · rw [hσ7, rI_sI, if_neg (by decide), u2.I (by simp), rI_sI, if_neg (by decide), r9.I (by simp), hM24.I (by decide), b4.I (by decide)]
        rfl
    · rw [if_neg hkc]
      have hkl : ps.length < k := by
        rw [b9.2.2.1, i_le, i_n (by omega), i_n (by omega)] at hkc
        omega
      have hA8 : Ag g ρ ρ7 := b13
      have hP8 : PlcP g8 ρ7 P ps σ2 := b9.to F78 Ag.rf (fun q _ k k2 => by rw [k2] at k; omega) rfl rfl
      obtain ⟨⟨z1, z2, z3, z4, z5, z6⟩, hb8⟩ := hGK8 σ2 rfl
      have z7 : gR g8 (gz g) 2 = 0 := by
        rcases hb8 with ⟨-, q⟩ | ⟨_, _, q, -⟩
        · exact q
        · exact absurd q (by decide)
      have hgo : X12_go (gz g) 0 (nI k) g8 = some (((), g8), 0, 0) := by
        show X12_go_b (X12_go_r 4) (gz g) 0 (nI k) g8 = _
        unfold X12_go_b
        have hf : fu_ = (fu_ - 1) + 1 := by unfold fu_; omega
        rw [if_neg (nI_ne0 (by omega) (by omega)), hf, la_end (e := g8)]
        · rfl
        · show X12_go_b53 (X12_go_r 4) (gz g) (nI k) 0 g8 = _
          unfold X12_go_b53
          rw [e_wk z1, z4, e_nn, e_wk hP8.1.K, J2_size_l hP8.1, e_ob, show (0 : Int32) = nI 0 from rfl, nI_add, if_pos (nI_lt (by omega) (by omega))]
      have hp8 : RelP a o sc v n kk h x m T g8 ρ7 σ2 := hp0.to F8 hA8 (fun q _ k => Or.inr k) (fun i => F8.R ha.2.2.1 hnoa i) (fun i _ => F8.I ha.2.2.1 hnoa i) (b4.eq (by decide) (by decide))
      refine OpT.ok (r := -1) (g' := g8) (σ' := σ2) (dc := 0 + 0 + dc1 + 1) (ds := 0 + 0 + ds1 + 5) ?_ rfl ⟨_, _, _, _, _, _, _, _, _, hp8⟩ (by omega) (by omega) (by rw [b4.I (by decide)]; rfl)
      rw [hgo, e_ca, e_wk z1, if_pos z7]
      unfold X1_marks_j54
      rw [e_wk z1, z6, e_bp, e_bp, e_bp]
