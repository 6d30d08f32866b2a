/-! LAWS: count, mark, kept, fault, holes, shots, light (own work) -/
set_option maxRecDepth 100000
theorem op_fault {a o : Nat} {g : GS} {σ : MS} (hr : Rel a o g σ) : ∃ r σ', X1_fault a g = some r ∧ X4_fault σ = some (r, σ') ∧ Rel a o g σ' := by
  obtain ⟨ρ, sc, v, n, k, h, y, m, T, hp⟩ := hr
  refine ⟨m_I σ 17, s_I σ 0 0, ?_, rfl, hp.r s0_eq⟩
  unfold X1_fault
  rw [e_wk hp.1.1.1.1, hp.2.2.2.1.2.2]
theorem op_count {a o : Nat} {g : GS} {σ : MS} (hr : Rel a o g σ) (x : Int32) : OpT [(1, 1)] a o (X1_count a x g) (X4_count x σ) := by
  obtain ⟨ρ, sc, v, n, k, h, y, m, T, hp⟩ := hr
  have hp0 := hp.m (s0_eq (c := 0))
  have hrel : Rel a o g (s_I σ 0 0) := hp0.r MEq.rf
  have hok : ∀ {w : Int32} {X : Option (((Int32 ⊕ (Nat × Nat)) × GS) × Nat × Nat)} {M : Option (Int32 × MS)}, X = some ((.inl w, g), 0, 0) → M = some (w, s_I σ 0 0) → OpT [(1, 1)] a o X M := fun h1 h2 => OpT.ok h1 h2 hrel (by omega) (by omega) rfl
  obtain ⟨⟨⟨⟨a1, a2, a3, a4, a5⟩, -, -, ⟨s1, s2, s3, s4, s5⟩, ⟨⟨p1, p2⟩, ⟨p3, p4⟩, p5, p6⟩, ⟨⟨l0, xs0, q01, q02, q03, -⟩, ⟨l1, xs1, q11, q12, q13, -⟩, ⟨l2, xs2, q21, q22, q23, -⟩⟩, -⟩, hsm, hT⟩, ⟨n1, ⟨c1, c2, c3, ⟨d0, d1, d2, d3, d4, d5⟩, lm, ys, e1, e2, e3, e4⟩, ⟨n3, n4⟩, n5⟩, -, ⟨-, ⟨tp, t1, t2, t3⟩, t4⟩, ⟨rf, r1, r2, r3, r4, r5, r6⟩, ⟨la, xa, f1, f2, f3, f4, -⟩, ⟨nf, ⟨lf, xf, g1, g2, g3, -⟩, g5, g6⟩, ⟨lb, xb, b1, b2, b3, b4, -⟩, -⟩ := hp0
  unfold X1_count X4_count
  rw [X4_within_l, e_ob]
  cases hw : wi_ x 0 17 with
  | false =>
    have hn : ¬ (0 ≤ x.toInt ∧ x.toInt ≤ 17) := fun q => by
      have := (wi_t (x := x) (lo := 0) (hi := 17)).mpr q
      rw [hw] at this
      cases this
    have nx : ∀ c : Int32, 0 ≤ c.toInt → c.toInt ≤ 17 → ¬ x = c := fun c h1 h2 q => hn (by rw [q]; exact ⟨h1, h2⟩)
    have hw2 : wi_ x 15 17 = false := by
      cases hq : wi_ x 15 17 with
      | false => rfl
      | true =>
        obtain ⟨h1, h2⟩ := wi_t.mp hq
        exact absurd ⟨by have : ((15 : Int32)).toInt = 15 := by decide
                         omega, h2⟩ hn
    refine OpT.ex (e := 1) (q := gz g) (r := 0) (g' := g) (σ' := s_I (s_I σ 0 0) 0 1) (dc := 1) (ds := 6) ?_ ?_ (hp.r (s0_eq.trans s0_eq)) (by omega) (by omega) (List.mem_cons_self)
    · rw [if_neg (nx 0 (by decide) (by decide)), if_neg (nx 1 (by decide) (by decide)), if_neg (nx 2 (by decide) (by decide)), if_neg (nx 3 (by decide) (by decide)), if_neg (nx 4 (by decide) (by decide)), if_neg (nx 5 (by decide) (by decide)), if_neg (nx 6 (by decide) (by decide)), if_neg (nx 7 (by decide) (by decide)), if_neg (nx 8 (by decide) (by decide)), if_neg (nx 9 (by decide) (by decide)), if_neg (nx 10 (by decide) (by decide)), if_neg (nx 11 (by decide) (by decide)), if_neg (nx 12 (by decide) (by decide)), if_neg (nx 13 (by decide) (by decide)), if_neg (nx 14 (by decide) (by decide)), X1_in_l, hw2, e_ob]
      rfl
    · show cb_ (X4_right 0 1 (s_I σ 0 0)) _ = _
      rw [X4_right0 s0_0 (by decide), e_cb, if_pos rfl]
  | true =>
    rw [if_pos rfl, X4_right1 s0_0, e_cb, if_neg nn01]
    by_cases h0 : x = 0
    · rw [if_pos h0, if_pos h0, e_wk a1, a4, e_nn, e_wk s1, s5, X4_last_l p1 p2, e_ob]; exact hok rfl rfl
    rw [if_neg h0, if_neg h0]
    by_cases h1 : x = 1
    · rw [if_pos h1, if_pos h1, e_wk a1, a4, e_nn, e_wk s1, q01, e_nn, e_wk q02.K, J2_size_l q02, e_ob, q03, p1]; exact hok rfl rfl
    rw [if_neg h1, if_neg h1]
    by_cases h2 : x = 2
    · rw [if_pos h2, if_pos h2, e_wk a1, a4, e_nn, e_wk s1, q11, e_nn, e_wk q12.K, J2_size_l q12, e_ob, q13, p3]; exact hok rfl rfl
    rw [if_neg h2, if_neg h2]
    by_cases h3 : x = 3
    · rw [if_pos h3, if_pos h3, e_wk a1, n1, e_nn, e_wk c1, e1, e_nn, e_wk e2.K, J2_size_l e2, e_ob, e3, n3]; exact hok rfl rfl
    rw [if_neg h3, if_neg h3]
    by_cases h4 : x = 4
    · rw [if_pos h4, if_pos h4, e_wk a1, a4, e_nn, e_wk s1, q21, e_nn, e_wk q22.K, J2_size_l q22, e_ob, q23, p5]; exact hok rfl rfl
    rw [if_neg h4, if_neg h4]
    by_cases h5 : x = 5
    · rw [if_pos h5, if_pos h5, e_wk a1, n1, e_nn, e_wk c1, d4, e_i5 (by omega) (by omega), cl_5]; exact hok rfl rfl
    rw [if_neg h5, if_neg h5]
    by_cases h6 : x = 6
    · rw [if_pos h6, if_pos h6, e_wk a1, n1, e_nn, e_wk c1, d0, e_i0 (by omega) (by omega), cl_0]; exact hok rfl rfl
    rw [if_neg h6, if_neg h6]
    by_cases h7 : x = 7
    · rw [if_pos h7, if_pos h7, e_wk a1, n1, e_nn, e_wk c1, d1, e_i1 (by omega) (by omega), cl_1]; exact hok rfl rfl
    rw [if_neg h7, if_neg h7]
    by_cases h8 : x = 8
    · rw [if_pos h8, if_pos h8, e_wk a1, n1, e_nn, e_wk c1, d2, e_i2 (by omega) (by omega), cl_2]; exact hok rfl rfl
    rw [if_neg h8, if_neg h8]
    by_cases h9 : x = 9
    · rw [if_pos h9, if_pos h9, e_wk a1, n1, e_nn, e_wk c1, d3, e_i3 (by omega) (by omega), cl_3]; exact hok rfl rfl
    rw [if_neg h9, if_neg h9]
    by_cases h10 : x = 10
    · rw [if_pos h10, if_pos h10, e_wk a1, n1, e_nn, e_wk c1, d5, e_i4 (by omega) (by omega), cl_4]; exact hok rfl rfl
    rw [if_neg h10, if_neg h10]
    by_cases h11 : x = 11
    · rw [if_pos h11, if_pos h11, e_wk a1, f1, e_nn, e_wk f2.K, J2_size_l f2, e_ob, f3]; exact hok rfl rfl
    rw [if_neg h11, if_neg h11]
    by_cases h12 : x = 12
    · rw [if_pos h12, if_pos h12, e_wk a1, g1, e_nn, e_wk g2.K, J2_size_l g2, e_ob, g3, g5]; exact hok rfl rfl
    rw [if_neg h12, if_neg h12]
    by_cases h13 : x = 13
    · rw [if_pos h13, if_pos h13, e_wk a1, b1, e_nn, e_wk b2.K, J2_size_l b2, e_ob, b3]; exact hok rfl rfl
    rw [if_neg h13, if_neg h13]
    by_cases h14 : x = 14
    · rw [if_pos h14, if_pos h14, e_wk a1, t2, t3]; exact hok rfl rfl
    rw [if_neg h14, if_neg h14]
    obtain ⟨u1, u2⟩ := wi_t.mp hw
    rw [k_0] at u1
    have u2 : x.toInt ≤ 17 := u2
    obtain ⟨s, rfl, s2, -⟩ := i_nat u1
    have hs : 15 ≤ s := by
      have ne : ∀ c : Nat, c < 15 → s ≠ c := by
        intro c hc q
        subst q
        have : s = 0 ∨ s = 1 ∨ s = 2 ∨ s = 3 ∨ s = 4 ∨ s = 5 ∨ s = 6 ∨ s = 7 ∨ s = 8 ∨ s = 9 ∨ s = 10 ∨ s = 11 ∨ s = 12 ∨ s = 13 ∨ s = 14 := by omega
        rcases this with rfl | rfl | rfl | rfl | rfl | rfl | rfl | rfl | rfl | rfl | rfl | rfl | rfl | rfl | rfl
        · exact h0 rfl
        · exact h1 rfl
        · exact h2 rfl
        · exact h3 rfl
        · exact h4 rfl
        · exact h5 rfl
        · exact h6 rfl
        · exact h7 rfl
        · exact h8 rfl
        · exact h9 rfl
        · exact h10 rfl
        · exact h11 rfl
        · exact h12 rfl
        · exact h13 rfl
        · exact h14 rfl
      rcases Nat.lt_or_ge s 15 with q | q
      · exact absurd rfl (ne s q)
      · exact q
    have hw2 : wi_ (nI s) 15 17 = true := wi_t.mpr ⟨by rw [i_n (by omega)]; show (15 : Int) ≤ _; omega, u2⟩
    have hsub : nI s - 15 = nI (s - 15) := by
      rw [i_eq, i_sub (by rw [i_n (by omega)]; show _ ≤ (s : Int) - 15; omega) (by rw [i_n (by omega)]; show (s : Int) - 15 ≤ _; omega), i_n (by omega), i_n (by omega)]
      show (s : Int) - 15 = _
      omega
    rw [X1_in_l, if_pos hw2, e_ob, X1_found_t, e_tcl, bp_0, e_wk a1, r1, e_nn, e_rk (by rw [r2]), hsub, e_inN (by rw [r3]; omega) (by rw [r3]; omega), e_inN (by omega) (by omega), nI_clamp (by omega), r6 _ (by omega)]
    exact hok rfl rfl
theorem op_mark {a o : Nat} {g : GS} {σ : MS} (hr : Rel a o g σ) (x : Int32) : OpT [(1, 1)] a o (X1_mark a x g) (X4_mark x σ) := by
  obtain ⟨ρ, sc, v, n, k, h, y, m, T, hp⟩ := hr
  have hp0 := hp.m (s0_eq (c := 0))
  have hrel : Rel a o g (s_I σ 0 0) := hp0.r MEq.rf
  obtain ⟨⟨⟨⟨a1, -⟩, -⟩, -⟩, ⟨n1, ⟨c1, c2, c3, -, lm, ys, e1, e2, e3, e4⟩, ⟨n3, n4⟩, n5⟩, -⟩ := hp0
  have hlen : nI ys.length - 1 = nI m - 1 := by rw [e3]
  have hm1 : (nI m - 1).toInt = (m : Int) - 1 := by rw [i_sub (by rw [i_n (by omega), k_1]; omega) (by rw [i_n (by omega), k_1]; omega), i_n (by omega), k_1]
  have n3' : m_I σ 4 = nI m := n3
  unfold X1_mark X4_mark X1_aMark
  rw [e_wk a1, e_wk a1, n1, e_nn, e_wk c1, e1, e_nn, e_wk e2.K, J2_size_l e2, e_ob, hlen, X1_in_l, e_ob]
  cases hw : wi_ x 0 (nI m - 1) with
  | false =>
    have key : X4_mark_j22 x (s_I σ 0 0) = some (0, s_I (s_I σ 0 0) 0 1) := by
      unfold X4_mark_j22 X4_mark_j23
      rw [X4_right0 s0_0 (by decide), e_cb, if_pos rfl]
    refine OpT.ex (e := 1) (q := gz g) (r := 0) (g' := g) (σ' := s_I (s_I σ 0 0) 0 1) (dc := 1) (ds := 6) ?_ ?_ (hp.r (s0_eq.trans s0_eq)) (by omega) (by omega) (List.mem_cons_self)
    · show tc_ (tc_ (X1_found 0 g) _ _) _ _ = _
      rw [X1_found_f, e_tcr, e_b0, e_tcr, e_b0]
    · rw [n3']
      have hn : ¬ (0 ≤ x.toInt ∧ x.toInt ≤ (nI m - 1).toInt) := fun q => by
        have := (wi_t (x := x) (lo := 0) (hi := nI m - 1)).mpr ⟨by rw [k_0]; exact q.1, q.2⟩
        rw [hw] at this
        cases this
      by_cases h1 : x < 0
      · rw [if_pos h1, key]
      · rw [if_neg h1, if_pos, key]
        rw [i_lt, k_0] at h1
        rw [i_le, i_n (by omega)]
        omega
  | true =>
    obtain ⟨h1, h2⟩ := wi_t.mp hw
    rw [k_0] at h1
    rw [hm1] at h2
    obtain ⟨s, rfl, s2, -⟩ := i_nat h1
    obtain ⟨z, hz⟩ := get_ex (xs := ys) (k := s) (by omega)
    obtain ⟨f1, f2, f3, f4⟩ := e4 s z hz
    refine OpT.ok (r := m_A (s_I σ 0 0) 53 (6 + s)) (g' := g) (σ' := s_I σ 0 0) (dc := 0) (ds := 0) ?_ ?_ hrel (by omega) (by omega) rfl
    · show tc_ (tc_ (X1_found 1 g) _ _) _ _ = _
      rw [X1_found_t, e_tcl, e_b0, e_tcl, bp_0, e_wk a1, n1, e_nn, e_wk c1, e1, e_nn, e_wk e2.K, J2_get_l e2 hz, e_ob, e_rk f1, J19_intValue_l f1, e_ob, f4]
    · rw [n3', if_neg (nI_pos (by omega)), if_neg (nI_ge (by omega) (by omega))]
      unfold X4_mark_j23
      have h6 : 6 + nI s = nI (6 + s) := nI_add 6 s
      rw [X4_right1 s0_0, e_cb, if_neg nn01, h6, e_inN (by omega) (by omega), nI_clamp (by omega)]
theorem op_kept {a o : Nat} {g : GS} {σ : MS} (hr : Rel a o g σ) (x : Int32) : OpT [(1, 1)] a o (X1_kept_2 a x g) (X4_kept x σ) := by
  obtain ⟨ρ, sc, v, n, k, h, y, m, T, hp⟩ := hr
  have hp0 := hp.m (s0_eq (c := 0))
  have hrel : Rel a o g (s_I σ 0 0) := hp0.r MEq.rf
  have a1 := hp.1.1.1.1
  have hK := hp.2.2.2.2.2.2.2.2.1
  have key : ∀ X : Option (((Int32 ⊕ (Nat × Nat)) × GS) × Nat × Nat), X = X1_kept_2_j28 a x g → ∀ M, M = X4_kept_j30 x (s_I σ 0 0) → OpT [(1, 1)] a o X M := by
    intro X hX M hM
    refine OpT.ex (e := 1) (q := gz g) (r := 0) (g' := g) (σ' := s_I (s_I σ 0 0) 0 1) (dc := 1) (ds := 6) ?_ ?_ (hp.r (s0_eq.trans s0_eq)) (by omega) (by omega) (List.mem_cons_self)
    · rw [hX]
      unfold X1_kept_2_j28 X1_kept_2_j29
      rw [X1_found_f, e_tcr, e_b0]
    · rw [hM]
      unfold X4_kept_j30 X4_kept_j31
      rw [X4_right0 s0_0 (by decide), e_cb, if_pos rfl]
  unfold X1_kept_2 X4_kept
  rw [e_wk a1]
  rcases hK with ⟨k1, k2⟩ | ⟨l, ys, k1, k2, k3, k4, k5⟩
  · rw [if_pos k1, k2, if_pos rfl]
    exact key _ rfl _ rfl
  · have hne : ¬ m_I σ 68 = -1 := by rw [k3, i_eq, i_n (by omega), k_n1]; omega
    rw [if_neg (by omega), if_neg hne]
    by_cases h1 : x < 0
    · rw [if_pos h1, if_pos h1]
      exact key _ rfl _ rfl
    · rw [if_neg h1, if_neg h1, k1, e_nn, e_wk k2.K, J2_size_l k2, e_ob, k3]
      by_cases h2 : nI ys.length ≤ x
      · rw [if_pos h2, if_pos h2]
        exact key _ rfl _ rfl
      · rw [if_neg h2, if_neg h2]
        rw [i_lt, k_0] at h1
        rw [i_le, i_n (by omega)] at h2
        obtain ⟨s, rfl, s2, -⟩ := i_nat (x := x) (by omega)
        obtain ⟨z, hz⟩ := get_ex (xs := ys) (k := s) (by omega)
        obtain ⟨f1, f2, f3, f4⟩ := k5 s z hz
        refine OpT.ok (r := m_A (s_I σ 0 0) 70 s) (g' := g) (σ' := s_I σ 0 0) (dc := 0) (ds := 0) ?_ ?_ hrel (by omega) (by omega) rfl
        · unfold X1_kept_2_j29
          rw [X1_found_t, e_tcl, bp_0, e_wk a1, k1, e_nn, e_wk k2.K, J2_get_l k2 hz, e_ob, e_rk f1, J19_intValue_l f1, e_ob, f4]
          rfl
        · unfold X4_kept_j31
          rw [X4_right1 s0_0, e_cb, if_neg nn01, e_inN (by omega) (by omega), nI_clamp (by omega)]
