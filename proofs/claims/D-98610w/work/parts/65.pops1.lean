/-! LAWS: turn, inches, tenth, all, count, mark, kept, fault (own work) -/
set_option maxRecDepth 100000
theorem nn01 : ¬ (1 : Int32) = 0 := by decide
theorem op_turn {a o : Nat} {g : GS} {σ : MS} (hr : Rel a o g σ) (x : Int32) : OpT [(2, 1)] a o (X1_turn a x g) (X4_turn x σ) := by
  obtain ⟨ρ, sc, v, n, k, h, y, m, T, hp⟩ := hr
  have hp0 := hp.m (s0_eq (c := 0))
  unfold X1_turn X4_turn
  rw [X1_in_l, X4_within_l, e_ob, e_ob]
  cases hw : wi_ x 12 480 with
  | false =>
    refine OpT.ex (e := 2) (q := gz g) (r := 0) (g' := g) (σ' := s_I (s_I σ 0 0) 0 1) (dc := 1) (ds := 6) rfl ?_ (hp0.r s0_eq) (by omega) (by omega) (List.mem_cons_self)
    show cb_ (X4_right 0 1 (s_I σ 0 0)) _ = _
    rw [X4_right0 s0_0 (by decide), e_cb, if_pos rfl]
  | true =>
    obtain ⟨h1, h2⟩ := wi_t.mp hw
    rw [k_12] at h1
    rw [k_480] at h2
    obtain ⟨r, g', σ', b1, b2, b3, b4, b5, b6⟩ := turn_l hp0.1.1 ⟨h1, h2⟩
    refine OpT.ok (r := r) (g' := g') (σ' := σ') (dc := 0) (ds := 0) ?_ ?_ (hp0.q b3 Ag.rf (b5.eq (by decide) (by decide))) (by omega) (by omega) (by rw [b5.I (by decide)]; rfl)
    · show tc_ (X1_right 1 g) _ _ = _
      rw [X1_right_t, e_tcl, e_wk hp.1.1.1.1, b1, e_cb, e_b0]
    · show cb_ (X4_right 1 1 (s_I σ 0 0)) _ = _
      rw [X4_right1 s0_0, e_cb, if_neg nn01, b2, e_cb]
theorem RelP.sc {a o sc v n k h x m T : Nat} {g : GS} {ρ : Nat → Nat} {σ : MS} (hp : RelP a o sc v n k h x m T g ρ σ) : gK g a = 1 ∧ gR g a 0 = sc + 1 ∧ gK g sc = 2 ∧ gI g sc 6 = nI T ∧ LaP σ n T := by
  obtain ⟨⟨⟨⟨a1, a2, a3, a4, a5⟩, -, -, ⟨s1, s2, s3, s4, s5⟩, ⟨⟨p1, p2⟩, -⟩, -⟩, h2, h3⟩, -⟩ := hp
  exact ⟨a1, a4, s1, by rw [s5, h2], p1, p2, h2, h3⟩
theorem X1_aTenth_t {a o sc v n k h x m T : Nat} {g : GS} {ρ : Nat → Nat} {σ : MS} (hp : RelP a o sc v n k h x m T g ρ σ) {t : Int32} (ht : wi_ t 0 (nI T) = true) : X1_aTenth a t g = some ((.inl (), g), 0, 0) := by
  obtain ⟨a1, a2, a3, a4, -⟩ := hp.sc
  unfold X1_aTenth
  rw [e_wk a1, a2, e_nn, e_wk a3, a4, X1_in_l, if_pos ht, e_ob, X1_found_t, e_tcl, e_b0]
theorem X1_aTenth_f {a o sc v n k h x m T : Nat} {g : GS} {ρ : Nat → Nat} {σ : MS} (hp : RelP a o sc v n k h x m T g ρ σ) {t : Int32} (ht : wi_ t 0 (nI T) = false) : X1_aTenth a t g = some ((.inr (1, gz g), g), 1, 6) := by
  obtain ⟨a1, a2, a3, a4, -⟩ := hp.sc
  unfold X1_aTenth
  rw [e_wk a1, a2, e_nn, e_wk a3, a4, X1_in_l, ht, e_ob]
  rfl
theorem X4_isTenth_t {σ : MS} {n T : Nat} (h : LaP σ n T) (h0 : m_I σ 0 = 0) {t : Int32} (ht : wi_ t 0 (nI T) = true) : X4_isTenth t σ = some (1, σ) := by
  obtain ⟨h1, h2⟩ := wi_t.mp ht
  rw [k_0] at h1
  unfold X4_isTenth X4_isTenth_j18
  rw [if_neg (by rw [i_lt, k_0]; omega), h.l, e_ob, if_neg (by rw [i_lt]; omega), X4_right1 h0, e_cb]
  rfl
theorem X4_isTenth_f {σ : MS} {n T : Nat} (h : LaP σ n T) (h0 : m_I σ 0 = 0) {t : Int32} (ht : wi_ t 0 (nI T) = false) : X4_isTenth t σ = some (0, s_I σ 0 1) := by
  have hn : ¬ (0 ≤ t.toInt ∧ t.toInt ≤ (nI T).toInt) := fun q => by
    have := (wi_t (x := t) (lo := 0) (hi := nI T)).mpr ⟨by rw [k_0]; exact q.1, q.2⟩
    rw [ht] at this
    cases this
  have key : X4_isTenth_j17 σ = some (0, s_I σ 0 1) := by
    unfold X4_isTenth_j17 X4_isTenth_j18
    rw [X4_right0 h0 (by decide), e_cb]
    rfl
  unfold X4_isTenth
  by_cases h1 : t < 0
  · rw [if_pos h1, key]
  · rw [if_neg h1, h.l, e_ob, if_pos, key]
    rw [i_lt, k_0] at h1
    rw [i_lt]
    omega
theorem ten_n {t : Int32} {T : Nat} (hT : T ≤ 600) (ht : wi_ t 0 (nI T) = true) : ∃ s, t = nI s ∧ s ≤ T := by
  obtain ⟨h1, h2⟩ := wi_t.mp ht
  rw [k_0] at h1
  rw [i_n (by omega)] at h2
  obtain ⟨s, s1, s2, s3⟩ := i_nat h1
  exact ⟨s, s1, by omega⟩
theorem op_inches {a o : Nat} {g : GS} {σ : MS} (hr : Rel a o g σ) (t who : Int32) : OpT [(1, 1)] a o (X1_inches a t who g) (X4_inches t who σ) := by
  obtain ⟨ρ, sc, v, n, k, h, y, m, T, hp⟩ := hr
  have hp0 := hp.m (s0_eq (c := 0))
  obtain ⟨a1, a2, a3, a4, hla⟩ := hp0.sc
  unfold X1_inches X4_inches
  rw [e_wk a1]
  cases ht : wi_ t 0 (nI T) with
  | false =>
    refine OpT.ex (e := 1) (q := gz g) (r := 0) (g' := g) (σ' := s_I (s_I σ 0 0) 0 1) (dc := 1) (ds := 6) ?_ ?_ (hp0.r s0_eq) (by omega) (by omega) (List.mem_cons_self)
    · rw [X1_aTenth_f hp ht, e_tcr, e_b0]
    · rw [X4_isTenth_f hla s0_0 ht, e_cb, if_pos rfl]
  | true =>
    rw [X1_aTenth_t hp ht, e_tcl, bp_0, X4_isTenth_t hla s0_0 ht, e_cb, if_neg nn01]
    cases hw : wi_ who 0 1 with
    | false =>
      refine OpT.ex (e := 1) (q := gz g) (r := 0) (g' := g) (σ' := s_I (s_I σ 0 0) 0 1) (dc := 1) (ds := 6) ?_ ?_ (hp0.r s0_eq) (by omega) (by omega) (List.mem_cons_self)
      · rw [X1_oneOf_f hw, e_tcr, e_b0]
      · rw [X4_isWhat_f s0_0 hw, e_cb, if_pos rfl]
    | true =>
      obtain ⟨w1, w2⟩ := wi_t.mp hw
      rw [k_0] at w1
      rw [k_1] at w2
      rw [X1_oneOf_t hw, e_tcl, bp_0, X4_isWhat_t s0_0 hw, e_cb, if_neg nn01]
      obtain ⟨g', b1, b2, b3, b4⟩ := newtake hp0
      obtain ⟨s, rfl, hs⟩ := ten_n hla.2.2.2 ht
      have hT6 := hla.2.2.2
      have hC := hp0.1.1
      have hR1 := hp0.2.1.1
      have hav : ¬ a = gz g := by have := hC.1.2.2.1; omega
      obtain ⟨⟨⟨A1, A2, A3, A4, A5⟩, -, -, ⟨S1, S2, S3, S4, S5⟩, ⟨⟨P1, P2⟩, -⟩, ⟨Q1, -, -⟩, -, w1', -, w3, -⟩, ⟨⟨U1, -, -⟩, ⟨F0, -, -, -, F7⟩, -, -⟩, ⟨⟨N1, N1'⟩, -⟩, -, hSt, -, hRo⟩ := b2
      have hwho : who = 1 ∨ who = 0 := by
        rw [i_eq, i_eq, k_0, k_1]
        omega
      have hX : ∀ q : Int32, X11_inches (gz g) (nI s) q g' = some (ic_ (m_A (s_I σ 0 0) 8) (m_A (s_I σ 0 0) 9) n (m_I (s_I σ 0 0) 1) (m_A (s_I σ 0 0) 53 4) (m_I (s_I σ 0 0) 59) (nI s) q) := fun q => by
        rw [X11_inches_l U1 A1 S1 hSt.1 F7 A4 F0 Q1 P2 w1' (by rw [N1]; omega) (by rw [i_n (by omega)]; omega), S4, N1, hSt.2.2.2.1.2.2.2.2.2]
      have hM : X4_inchesOf (nI s) who (s_I σ 0 0) = some (ic_ (m_A (s_I σ 0 0) 8) (m_A (s_I σ 0 0) 9) n (m_I (s_I σ 0 0) 1) (m_A (s_I σ 0 0) 53 4) (m_I (s_I σ 0 0) 59) (nI s) who) := X4_inchesOf_l P1 P2 w1' w3 (by omega) (by rw [i_n (by omega)]; omega)
      refine OpT.ok (g' := g') (σ' := s_I σ 0 0) (dc := 4) (ds := 1811) ?_ (by rw [hM, e_ob]) (hp0.q (b3.mono (fun _ _ k => k.elim)) (nr_ag (r := 9)) MEq.rf) (by omega) (by omega) rfl
      rw [e_al, e_wk (by rw [K_nw, if_neg hav]; exact a1), R_nw, if_neg hav, hR1, e_nn, b1, e_ca]
      rcases hwho with rfl | rfl
      · rw [if_pos rfl]
        unfold X1_inches_j33
        rw [e_wk U1, hX, e_ob]
        rfl
      · rw [if_neg (by decide)]
        unfold X1_inches_j33
        rw [e_wk U1, hX, e_ob]
        rfl
theorem op_tenth {a o : Nat} {g : GS} {σ : MS} (hr : Rel a o g σ) (t what : Int32) : OpT [(1, 1)] a o (X1_tenth a t what g) (X4_tenth t what σ) := by
  obtain ⟨ρ, sc, v, n, k, h, y, m, T, hp⟩ := hr
  have hp0 := hp.m (s0_eq (c := 0))
  obtain ⟨a1, a2, a3, a4, hla⟩ := hp0.sc
  unfold X1_tenth X4_tenth
  rw [e_wk a1]
  cases ht : wi_ t 0 (nI T) with
  | false =>
    refine OpT.ex (e := 1) (q := gz g) (r := 0) (g' := g) (σ' := s_I (s_I σ 0 0) 0 1) (dc := 1) (ds := 6) ?_ ?_ (hp0.r s0_eq) (by omega) (by omega) (List.mem_cons_self)
    · rw [X1_aTenth_f hp ht, e_tcr, e_b0]
    · rw [X4_isTenth_f hla s0_0 ht, e_cb, if_pos rfl]
  | true =>
    rw [X1_aTenth_t hp ht, e_tcl, bp_0, X4_isTenth_t hla s0_0 ht, e_cb, if_neg nn01]
    cases hw : wi_ what 0 5 with
    | false =>
      refine OpT.ex (e := 1) (q := gz g) (r := 0) (g' := g) (σ' := s_I (s_I σ 0 0) 0 1) (dc := 1) (ds := 6) ?_ ?_ (hp0.r s0_eq) (by omega) (by omega) (List.mem_cons_self)
      · rw [X1_oneOf_f hw, e_tcr, e_b0]
      · rw [X4_isWhat_f s0_0 hw, e_cb, if_pos rfl]
    | true =>
      rw [X1_oneOf_t hw, e_tcl, bp_0, X4_isWhat_t s0_0 hw, e_cb, if_neg nn01]
      obtain ⟨s, rfl, hs⟩ := ten_n hla.2.2.2 ht
      have hT6 := hla.2.2.2
      obtain ⟨g', σ', b1, b2, b3, b4, b5, b6⟩ := take_l hp0
      have hme : MEq (s_I σ 0 0) σ' := b6.eq (by decide) (by decide)
      have hth : m_I σ' 0 = 0 := by rw [b6.I (by decide)]; rfl
      have hrel := hp0.q b4 (nr_ag (r := 9)) hme
      have hof := b3.of
      have hx := b3.x
      obtain ⟨⟨-, ⟨⟨U1, -, -⟩, ⟨F0, F1, F2, F3, F7⟩, ⟨⟨c1, c2, c3, c4⟩, ⟨d1, d2, d3, d4⟩, ⟨o1, o2, o3, o4⟩⟩, -⟩, -⟩, hAr, -⟩ := id b3
      have hA := hAr s (by omega)
      rw [b2, e_ob]
      by_cases w0 : what = 0
      · subst w0
        obtain ⟨⟨A1, A2, A3, A4, A5⟩, -, -, ⟨S1, S2, S3, S4, S5⟩, ⟨-, ⟨P3, P4⟩, -⟩, ⟨Q1, Q2, -⟩, -, -, v2, -⟩ := hp0.1.1
        have hwy := wy_01 (C := m_A (s_I σ 0 0) 10) (t := nI s) (s := 0) k (fun i hi => (v2 i hi).2)
        have hM : X4_whoseIn (nI s) σ' = some (wy_ (m_A (s_I σ 0 0) 10) (m_A (s_I σ 0 0) 11) (nI s) 0 k) := by
          unfold X4_whoseIn
          rw [X4_whoseBy_l (by rw [b6.I (by decide)]; exact P3) P4, e_ob, b6.Af (j := 10) (by decide), b6.Af (j := 11) (by decide)]
        refine OpT.ok (r := wy_ (m_A (s_I σ 0 0) 10) (m_A (s_I σ 0 0) 11) (nI s) 0 k) (g' := g) (σ' := σ') (dc := 0) (ds := 0) ?_ (by rw [if_pos rfl, hM, e_ob]) (hp.r (s0_eq.trans hme)) (by omega) (by omega) hth
        rw [if_pos rfl, e_wk A1, A4, e_nn, e_wk S1, X2_isHis_l S1 Q2 P4 v2, e_ob]
        rcases hwy with q | q <;> rw [q] <;> rfl
      · rw [if_neg w0, if_neg w0, e_wk a1, b1, e_ca]
        have s1 : s < 601 := by omega
        by_cases w1 : what = 1
        · rw [if_pos w1, if_pos w1, e_wk U1, F1, e_nn, e_rk (by rw [c1]), e_inN (by rw [c2]; exact s1) (by rw [c2]; omega), e_inN s1 (by omega), nI_clamp (by omega), hA.1.1]
          exact OpT.ok e_b0 rfl hrel (by omega) (by omega) hth
        · rw [if_neg w1, if_neg w1]
          by_cases w2 : what = 2
          · rw [if_pos w2, if_pos w2, e_wk U1, F2, e_nn, e_rk (by rw [d1]), e_inN (by rw [d2]; exact s1) (by rw [d2]; omega), e_inN s1 (by omega), nI_clamp (by omega), hA.2.1.1]
            exact OpT.ok e_b0 rfl hrel (by omega) (by omega) hth
          · rw [if_neg w2, if_neg w2]
            by_cases w3 : what = 3
            · rw [if_pos w3, if_pos w3, e_wk U1, F3, e_nn, e_rk (by rw [o1]), e_inN (by rw [o2]; exact s1) (by rw [o2]; omega), e_inN s1 (by omega), nI_clamp (by omega), hA.2.2.1]
              exact OpT.ok e_b0 rfl hrel (by omega) (by omega) hth
            · rw [if_neg w3, if_neg w3]
              by_cases w4 : what = 4
              · rw [if_pos w4, if_pos w4, e_wk U1, X11_isSharp2_l hof hx.1 hx.2.1 hs, e_ob, X4_isSharp_l (by omega), e_ob, hx.2.2.1]
                rcases sh_01 (hole := m_A σ' 53 0) (v := m_A σ' 63 s) with q | q
                · rw [q, if_pos rfl, if_pos rfl]
                  exact OpT.ok e_b0 rfl hrel (by omega) (by omega) hth
                · rw [q, if_neg nn01, if_neg nn01]
                  exact OpT.ok e_b0 rfl hrel (by omega) (by omega) hth
              · rw [if_neg w4, if_neg w4, e_wk U1]
                obtain ⟨w, g2, σ2, f1, f2, f3, f4, f5, f6⟩ := shows_l b3 hs
                have hrel2 := hp0.q (b4.trans f3 (fun _ _ k => k)) (nr_ag (r := 9)) (hme.trans (f5.eq (by decide) (by decide)))
                have hth2 : m_I σ2 0 = 0 := by rw [f5.I (by decide)]; exact hth
                rw [f1, e_cb, f2, e_cb]
                rcases f6 with q | q
                · rw [q, if_pos rfl, if_pos rfl]
                  exact OpT.ok e_b0 rfl hrel2 (by omega) (by omega) hth2
                · rw [q, if_neg nn01, if_neg nn01]
                  exact OpT.ok e_b0 rfl hrel2 (by omega) (by omega) hth2
theorem op_all {a o : Nat} {g : GS} {σ : MS} (hr : Rel a o g σ) (what : Int32) : OpT [(1, 1)] a o (X1_all a what g) (X4_all what σ) := by
  obtain ⟨ρ, sc, v, n, k, h, y, m, T, hp⟩ := hr
  have hp0 := hp.m (s0_eq (c := 0))
  obtain ⟨a1, a2, a3, a4, hla⟩ := hp0.sc
  unfold X1_all X4_all
  cases hw : wi_ what 0 6 with
  | false =>
    refine OpT.ex (e := 1) (q := gz g) (r := 0) (g' := g) (σ' := s_I (s_I σ 0 0) 0 1) (dc := 1) (ds := 6) ?_ ?_ (hp0.r s0_eq) (by omega) (by omega) (List.mem_cons_self)
    · rw [X1_oneOf_f hw, e_tcr, e_b0]
    · rw [X4_isWhat_f s0_0 hw, e_cb, if_pos rfl]
  | true =>
    rw [X1_oneOf_t hw, e_tcl, bp_0, X4_isWhat_t s0_0 hw, e_cb, if_neg nn01]
    have hT6 := hla.2.2.2
    obtain ⟨g', σ', b1, b2, b3, b4, b5, b6⟩ := take_l hp0
    have hme : MEq (s_I σ 0 0) σ' := b6.eq (by decide) (by decide)
    have hth : m_I σ' 0 = 0 := by rw [b6.I (by decide)]; rfl
    have hrel := hp0.q b4 (nr_ag (r := 9)) hme
    have hof := b3.of
    have hx := b3.x
    have hla' := b3.la
    obtain ⟨⟨-, ⟨⟨U1, -, -⟩, ⟨F0, F1, F2, F3, F7⟩, ⟨⟨c1, c2, c3, c4⟩, ⟨d1, d2, d3, d4⟩, ⟨o1, o2, o3, o4⟩⟩, -⟩, -⟩, hAr, -⟩ := id b3
    rw [b2, e_ob, e_wk a1, b1, e_ca]
    by_cases w0 : what = 0
    · rw [if_pos w0, if_pos w0, e_wk U1, X11_sharp_l hof hx.1 hx.2.1, e_ob, X4_sharpMany_l hla', e_ob, hx.2.2.1]
      exact OpT.ok e_b0 rfl hrel (by omega) (by omega) hth
    · rw [if_neg w0, if_neg w0]
      by_cases w1 : what = 1
      · rw [if_pos w1, if_pos w1, e_wk U1, X11_worst_l hof, e_ob, X4_mostOff_l hla', e_ob]
        exact OpT.ok e_b0 rfl hrel (by omega) (by omega) hth
      · rw [if_neg w1, if_neg w1]
        by_cases w2 : what = 2
        · rw [if_pos w2, if_pos w2, e_wk U1, X11_longestSoft_l hof hx.1 hx.2.1, e_ob, X4_longestSoft_l hla', e_ob, hx.2.2.1]
          exact OpT.ok e_b0 rfl hrel (by omega) (by omega) hth
        · rw [if_neg w2, if_neg w2]
          by_cases w3 : what = 3
          · obtain ⟨r, r1, r2⟩ := soft_l hof hx.1 hx.2.1 hx.2.2.1 hla'
            rw [if_pos w3, if_pos w3, e_wk U1, r1, e_ob, r2, e_ob]
            exact OpT.ok e_b0 rfl hrel (by omega) (by omega) hth
          · rw [if_neg w3, if_neg w3]
            by_cases w4 : what = 4
            · rw [if_pos w4, if_pos w4, e_wk U1, X11_swings_l hof (fun t ht => (hAr t (by omega)).2.2.2), e_ob, X4_swings_l hla', e_ob]
              exact OpT.ok e_b0 rfl hrel (by omega) (by omega) hth
            · rw [if_neg w4, if_neg w4]
              by_cases w5 : what = 5
              · subst w5
                obtain ⟨w, g2, σ2, f1, f2, f3, f4, f5⟩ := shown_l b3
                rw [if_pos rfl, e_wk U1, f1, e_cb, f2, e_ob]
                exact OpT.ok e_b0 rfl (hp0.q (b4.trans f3 (fun _ _ k => k)) (nr_ag (r := 9)) (hme.trans (f5.eq (by decide) (by decide)))) (by omega) (by omega) (by rw [f5.I (by decide)]; exact hth)
              · rw [if_neg w5, e_wk U1, X11_turned_l hof ⟨F2, d1, d2, fun t ht => (hAr t (by omega)).2.1.1⟩, e_ob, X4_all6_l hla' w5 (fun t ht => (hAr t (by omega)).2.1.2), e_ob]
                exact OpT.ok e_b0 rfl hrel (by omega) (by omega) hth
