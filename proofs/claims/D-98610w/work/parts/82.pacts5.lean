/-! LAWS: chalk (own work) -/
set_option maxRecDepth 100000
theorem chalk_lp {σ : MS} {m : Nat} (x w : Int32) (h4 : m_I σ 4 = nI m) (hm0 : 0 < m) (hm : m ≤ 6) : lp_ (fun a : Int32 × Int32 => X4_chalk_b37 x w σ a.1 a.2) fu_ (0, 0) = some (if hs_ (fun i => m_A σ 53 (6 + i)) m w = true then 1 else 0) := by
  obtain ⟨k1, k2, k3⟩ := for_l (enc := fun (c : Int32) t => (c, nI t)) (fun a : Int32 × Int32 => X4_chalk_b37 x w σ a.1 a.2) (m - 1) (fun t c => if c = 0 then (if m_A σ 53 (6 + t) = w then 1 else 0) else 1) (fun c => c)
    (fun t c => (c = 0 ∨ c = 1) ∧ (c = 1 ↔ ∃ i, i < t ∧ m_A σ 53 (6 + i) = w))
    (fun t c ht ⟨p1, p2⟩ => by
      rcases p1 with rfl | rfl
      · rw [if_pos rfl]
        have hno : ∀ i, i < t → ¬ m_A σ 53 (6 + i) = w := fun i hi k => absurd (p2.mpr ⟨i, hi, k⟩) (by decide)
        by_cases q : m_A σ 53 (6 + t) = w
        · rw [if_pos q]
          exact ⟨Or.inr rfl, fun _ => ⟨t, by omega, q⟩, fun _ => rfl⟩
        · rw [if_neg q]
          refine ⟨Or.inl rfl, fun k => absurd k (by decide), ?_⟩
          rintro ⟨i, hi, k⟩
          by_cases e : i = t
          · rw [e] at k; exact absurd k q
          · exact absurd k (hno i (by omega))
      · rw [if_neg nn01]
        obtain ⟨i, hi, k⟩ := p2.mp rfl
        exact ⟨Or.inr rfl, fun _ => ⟨i, by omega, k⟩, fun _ => rfl⟩)
    (fun t c ht p12 => by
      clear p12
      show X4_chalk_b37 x w σ c (nI t) = _
      have h6 : 6 + nI t = nI (6 + t) := nI_add 6 t
      unfold X4_chalk_b37 X4_chalk_j64 X4_chalk_j69
      rw [h4, if_neg (nI_ge (show t < m by omega) (by omega)), h6, nI_1, nI_clamp (show 6 + t < 2 ^ 31 by omega), e_inN (show 6 + t < 12 by omega) (by omega)]
      by_cases q : c = 0
      · rw [if_pos q, if_pos q]
        by_cases q2 : m_A σ 53 (6 + t) = w
        · rw [if_pos q2, if_pos q2]
        · rw [if_neg q2, if_neg q2]
      · rw [if_neg q, if_neg q])
    (fun c _ => by
      show X4_chalk_b37 x w σ c (nI (m - 1 + 1)) = _
      unfold X4_chalk_b37
      rw [h4, if_pos (nI_le (by omega) (by omega))]) 0 ⟨Or.inl rfl, fun k => absurd k (by decide), fun ⟨i, hi, _⟩ => absurd hi (Nat.not_lt_zero _)⟩ (n := fu_) (by unfold fu_; omega)
  rw [show (lp_ (fun a : Int32 × Int32 => X4_chalk_b37 x w σ a.1 a.2) fu_ (0, 0)) = _ from k1]
  rw [show m - 1 + 1 = m by omega] at k2 k3 ⊢
  rcases k2 with q | q
  · rw [q, hs_f (fun i hi k => absurd (k3.mpr ⟨i, hi, k⟩) (by rw [q]; decide))]
    rfl
  · rw [q, if_pos (hs_t.mpr (k3.mp q))]
theorem op_chalk {a o : Nat} {g : GS} {σ : MS} (hr : Rel a o g σ) (x w : Int32) : OpT [(1, 1)] a o (X1_chalk a x w g) (X4_chalk x w σ) := by
  obtain ⟨ρ, sc, v, n, k, h, y, m, T, hp⟩ := hr
  have hp0 := hp.m (s0_eq (c := 0))
  have ha := hp.1.1.1
  have a1 := ha.1
  obtain ⟨n1, ⟨c1, c2, c3, c0, lm, ys, e1, e2, e3, e4⟩, ⟨n3, n4⟩, n5⟩ := hp0.2.1
  have hE := hp0.2.2.2.2.2.2.2.2.2.2.1
  have hlen : nI ys.length - 1 = nI m - 1 := by rw [e3]
  have hm1 : (nI m - 1).toInt = (m : Int) - 1 := by rw [i_sub (by rw [i_n (by omega), k_1]; omega) (by rw [i_n (by omega), k_1]; omega), i_n (by omega), k_1]
  have n3' : m_I σ 4 = nI m := n3
  unfold X1_chalk X4_chalk X1_aMark
  rw [e_wk a1, e_wk a1, n1, e_nn, e_wk c1, e1, e_nn, e_wk e2.K, J2_size_l e2, e_ob, hlen, X1_in_l, e_ob]
  cases hw : wi_ x 0 (nI m - 1) with
  | false =>
    have key : X4_chalk_j22 x w (s_I σ 0 0) = some (0, s_I (s_I σ 0 0) 0 1) := by
      unfold X4_chalk_j22 X4_chalk_j23
      rw [X4_right0 s0_0 (by decide), e_cb, if_pos rfl]
    refine OpT.ex (e := 1) (q := gz g) (r := 0) (g' := g) (σ' := s_I (s_I σ 0 0) 0 1) (dc := 1) (ds := 6) ?_ ?_ (hp.r (s0_eq.trans s0_eq)) (by omega) (by omega) (List.mem_cons_self)
    · show tc_ (tc_ (X1_found 0 g) _ _) _ _ = _
      rw [X1_found_f, e_tcr, e_b0, e_tcr, e_b0]
    · rw [n3']
      have hn : ¬ (0 ≤ x.toInt ∧ x.toInt ≤ (nI m - 1).toInt) := fun q => by
        have := (wi_t (x := x) (lo := 0) (hi := nI m - 1)).mpr ⟨by rw [k_0]; exact q.1, q.2⟩
        rw [hw] at this
        cases this
      by_cases h1 : x < 0
      · rw [if_pos h1, key]
      · rw [if_neg h1, if_pos, key]
        rw [i_lt, k_0] at h1
        rw [i_le, i_n (by omega)]
        omega
  | true =>
    obtain ⟨h1, h2⟩ := wi_t.mp hw
    rw [k_0] at h1
    rw [hm1] at h2
    obtain ⟨s, rfl, s2, -⟩ := i_nat h1
    have hsm : s < m := by omega
    obtain ⟨z0, hz0⟩ := get_ex (xs := ys) (k := s) (by omega)
    have h6 : 6 + nI s = nI (6 + s) := nI_add 6 s
    obtain ⟨b, hb⟩ : ∃ b, b = hs_ (fun i => m_A (s_I σ 0 0) 53 (6 + i)) m w := ⟨_, rfl⟩
    have hmod : X4_chalk_j23 (nI s) w 1 (s_I σ 0 0) = if b = true then X4_chalk_j92 (s_I σ 0 0) else if wi_ w 12 480 = true then (cb_ (X4_becomes (nI (6 + s)) w (s_I σ 0 0)) fun r19 σ20 => some (r19, σ20)) else X4_chalk_j92 (s_I σ 0 0) := by
      unfold X4_chalk_j23
      rw [X4_right1 s0_0, e_cb, if_neg nn01, chalk_lp _ _ n3 (by omega) n4, e_ob, ← hb, X4_within_l, e_ob, h6]
      cases b with
      | true => rw [if_pos rfl, if_pos rfl, if_neg nn01]
      | false =>
        rw [if_neg (show ¬ (false = true) by decide), if_neg (show ¬ (false = true) by decide), if_pos rfl]
        cases wi_ w 12 480 with
        | true => rw [if_pos rfl, if_pos rfl, if_neg nn01]
        | false => rw [if_neg (show ¬ (false = true) by decide), if_neg (show ¬ (false = true) by decide), if_pos rfl]
    -- refusals
    have hbad : ∀ g1 ρ1, RelP a o sc v n k h y m T g1 ρ1 (s_I σ 0 0) → ∃ g2, X1_chalk_j36 a g1 = some ((.inl (-1), g2), 0, 0) ∧ X4_chalk_j92 (s_I σ 0 0) = some (-1, s_A (s_I σ 0 0) 18 1 (m_A (s_I σ 0 0) 18 1 + 1)) ∧ Rel a o g2 (s_A (s_I σ 0 0) 18 1 (m_A (s_I σ 0 0) 18 1 + 1)) := by
      intro g1 ρ1 hq
      obtain ⟨rf, -, -, -, c4, c5, c6⟩ := hq.refu 1 (by omega) (-1)
      have c4' : X4_refuses 1 (-1) (s_I σ 0 0) = _ := c4
      have c5' : X1_refuse a 1 g1 = _ := c5
      refine ⟨_, ?_, ?_, ⟨_, _, _, _, _, _, _, _, _, c6⟩⟩
      · unfold X1_chalk_j36
        rw [e_wk hq.1.1.1.1, c5', e_cb]
      · unfold X4_chalk_j92
        rw [c4', e_cb]
    have hmm : (if nI s < 0 then X4_chalk_j22 (nI s) w (s_I σ 0 0) else if m_I (s_I σ 0 0) 4 ≤ nI s then X4_chalk_j22 (nI s) w (s_I σ 0 0) else X4_chalk_j23 (nI s) w 1 (s_I σ 0 0)) = X4_chalk_j23 (nI s) w 1 (s_I σ 0 0) := by
      rw [n3, if_neg (nI_pos (by omega)), if_neg (nI_ge (by omega) (by omega))]
    have hmm' : (if nI s < 0 then X4_chalk_j22 (nI s) w (s_I σ 0 0) else if m_I σ 4 ≤ nI s then X4_chalk_j22 (nI s) w (s_I σ 0 0) else X4_chalk_j23 (nI s) w 1 (s_I σ 0 0)) = X4_chalk_j23 (nI s) w 1 (s_I σ 0 0) := hmm
    rw [hmm', hmod, if_pos rfl, X1_found_t, e_tcl, e_b0, e_tcl, bp_0, X1_in_l, e_ob]
    cases hw2 : wi_ w 12 480 with
    | false =>
      obtain ⟨g2, d1, d2, d3⟩ := hbad g ρ hp0
      rw [if_neg (show ¬ (false = true) by decide), if_neg (show ¬ (false = true) by decide), if_pos rfl, d1, d2, ite_self]
      exact OpT.ok (dc := 0) (ds := 0) rfl rfl d3 (by omega) (by omega) rfl
    | true =>
      obtain ⟨w1, w2⟩ := wi_t.mp hw2
      rw [k_12] at w1
      rw [k_480] at w2
      rw [if_pos rfl, if_pos rfl, if_neg nn01, e_wk a1, n1, e_nn, e_wk c1, e1, e_nn]
      obtain ⟨z, g1, dc1, ds1, f1, f2, f3, f4, f5, f6, f7, f8, f9⟩ := J19_valueOf_l hE.2.1 w
      have hp1 : RelP a o sc v n k h y m T g1 (nr ρ g 0) (s_I σ 0 0) := hp0.to (W := no_) f2 nr_ag (fun _ _ k => k.elim) (fun i => f2.R ha.2.2.1 (fun k => k) i) (fun i _ => f2.I ha.2.2.1 (fun k => k) i) MEq.rf
      have e2' : LiP g1 (nr ρ g 0) 2 lm ys := e2.to f2 nr_ag (fun _ _ _ k => k)
      have e4' : IP g1 (nr ρ g 0) ys (fun i => m_A (s_I σ 0 0) 53 (6 + i)) := e4.to f2 nr_ag (fun _ _ _ k => k)
      rw [f1, e_ca, e_wk e2'.K, J2_contains_l e2' e4' f3 f6, e_ob, e3, ← hb]
      cases hbb : b with
      | true =>
        obtain ⟨g2, d1, d2, d3⟩ := hbad g1 _ hp1
        rw [if_pos rfl, if_pos rfl, if_neg nn01, d1, d2]
        exact OpT.ok (dc := dc1) (ds := ds1) (by rw [e_b0]) rfl d3 (by omega) (by omega) rfl
      | false =>
        rw [if_neg (show ¬ (false = true) by decide), if_neg (show ¬ (false = true) by decide), if_pos rfl]
        obtain ⟨g2, ρ2, dc, ds, l, xs, c, t1, t2, t3, t4, t5, t6, t7, t8, t9, t10, t11⟩ := keep_l hp1
        have ha1 := hp1.1.1.1
        have hE1 := hp1.2.2.2.2.2.2.2.2.2.2.1
        obtain ⟨σ', u1, u2, u3, u4, u5⟩ := becomes_l w t8 t9 (show 6 + s < 12 by omega)
        have ha3 : ¬ nr ρ g 0 a = 3 := by rw [ha1.2.1]; decide
        have hS2 : SetP g2 ρ2 2 y m (m_A (s_I σ 0 0) 53) := hp1.2.1.2.1.to t2 t3 (fun q _ k k2 => by rw [k2] at k; omega)
        have hEE : EnvP g2 ρ2 := hE1.to t2 t3 (fun q _ k k2 => by rw [k2] at k; omega)
        obtain ⟨z2, g3, dc3, ds3, v1, v2, v3, v4, v5, v6, v7, v8, v9⟩ := J19_valueOf_l hEE.2.1 w
        have hS3 : SetP g3 (nr ρ2 g2 0) 2 y m (m_A (s_I σ 0 0) 53) := hS2.to v2 nr_ag (fun _ _ _ k => k)
        obtain ⟨p1, p2, p3, p4, lm', ys', p5, ⟨ee, p6⟩, p7, p8⟩ := hS3
        obtain ⟨z', hz'⟩ := get_ex (xs := ys') (k := s) (by omega)
        obtain ⟨q1, q2, q3, q4⟩ := p8 s z' hz'
        obtain ⟨g4, r1, r2, r3, r4, r5, r6⟩ := J2_set_l p6 hz' v5 (by rw [v3]; rfl)
        have hrole : ∀ q, nr ρ2 g2 0 q = 0 → ¬ q = ee := fun q k k2 => by rw [k2, r5] at k; cases k
        have hyee : ¬ y = ee := fun k => by rw [k, r4] at p1; cases p1
        have q1' : gK g4 z' % 1000 = 14 := by rw [r3.K q3, q1]
        have q4' : gI g4 z' 0 = m_A (s_I σ 0 0) 53 (6 + s) := by rw [r3.I q3 (hrole _ q2), q4]
        have hrow' : m_A σ' 53 = fun i => if i = 6 + s then w else m_A (s_I σ 0 0) 53 i := funext u4
        have hSf : SetP g4 (nr ρ2 g2 0) 2 y m (m_A σ' 53) := by
          rw [hrow']
          refine ⟨by rw [r3.K p3, p1], p2, r3.lt p3, ?_, lm', ys'.set s z2, by rw [r3.R p3 hyee, p5], ⟨ee, r2⟩, by rw [List.length_set, p7], fun i u hu => ?_⟩
          · obtain ⟨o0, o1, o2, o3, o4, o5⟩ := p4
            have hne : ∀ j, j < 6 → ¬ j = 6 + s := fun j hj => by omega
            dsimp only
            rw [if_neg (hne 0 (by omega)), if_neg (hne 1 (by omega)), if_neg (hne 2 (by omega)), if_neg (hne 3 (by omega)), if_neg (hne 5 (by omega)), if_neg (hne 4 (by omega))]
            exact ⟨by rw [r3.I p3 hyee, o0], by rw [r3.I p3 hyee, o1], by rw [r3.I p3 hyee, o2], by rw [r3.I p3 hyee, o3], by rw [r3.I p3 hyee, o4], by rw [r3.I p3 hyee, o5]⟩
          · dsimp only
            rw [List.getElem?_set] at hu
            by_cases q : s = i
            · rw [if_pos q, if_pos (by omega)] at hu
              obtain rfl : z2 = u := Option.some.inj hu
              rw [if_pos (by omega)]
              exact ⟨by rw [r3.K v5, v3], v4, r3.lt v5, by rw [r3.I v5 (hrole _ v4), v6]⟩
            · rw [if_neg q] at hu
              obtain ⟨o1, o2, o3, o4⟩ := p8 i u hu
              rw [if_neg (by omega)]
              exact ⟨by rw [r3.K o3, o1], o2, r3.lt o3, by rw [r3.I o3 (hrole _ o2), o4]⟩
        have F24 : Fr (fun q => ρ2 q = 2) g2 g4 := (v2.mono (fun _ _ k => k.elim)).trans r3 (fun q hq k => by rw [k] at hq ⊢; rw [← nr_lt hq (ρ := ρ2) (r := 0), r5])
        have hrow'' : RowOK (m_A σ' 53) m h := by rw [hrow']; exact n5.put (by omega)
        have hM : Mf [0, 56] [53, 55] (s_I σ 0 0) σ' := (Mf.rf (LI := [0, 56]) (LA := [53, 55])).trans u2 (by decide) (by decide)
        have hcl : xs.length ≤ 40 := by rw [t10]; split <;> omega
        have hrel := rel_act hp1 t2 t3 t4 t5 F24 nr_ag hSf hrow'' hM (by rw [u3, t10]) hcl (t11 (6 + s) w _ _ (by omega) u4 u5)
        have ha2 : gK g2 a = 1 := by rw [t2.K ha1.2.2.1, ha1.1]
        have hr2 : gR g2 a 1 = y + 1 := by rw [t2.R ha1.2.2.1 ha3, hp1.2.1.1]
        have hr6 : gR g2 y 6 = lm' + 1 := by rw [← v2.R hS2.2.2.1 (fun k => k), p5]
        have hcost : ds3 + (ds + ds1) ≤ 80000 := by omega
        have hth : m_I σ' 0 = 0 := by rw [u2.I (by decide)]; rfl
        refine OpT.ok (r := m_A (s_I σ 0 0) 53 (6 + s)) (g' := g4) (σ' := σ') (dc := dc3 + dc + dc1) (ds := ds3 + ds + ds1) ?_ ?_ ⟨_, _, _, _, _, _, _, _, _, hrel⟩ (by omega) (by omega) hth
        · rw [e_wk ha1.1, t1, e_ca, e_wk ha2, hr2, e_nn, e_wk hS2.1, hr6, e_nn, v1, e_ca, e_wk p6.1, r1, e_cb, e_rk q1', J19_intValue_l q1', e_ob, q4', e_b0, e_bp, e_bp]
        · rw [u1, e_cb]
