/-! LAWS: next, middle (own work) -/
set_option maxRecDepth 100000
theorem mod_l {a b : Nat} (ha : a < 2 ^ 31) (hb : b < 2 ^ 31) : nI a - nI a / nI b * nI b = nI (a % b) := by
  have e1 : nI a / nI b = nI (a / b) := (Int32.ofNat_div (by omega) (by omega)).symm
  have e2 : nI (a / b) * nI b = nI (a / b * b) := (Int32.ofNat_mul _ _).symm
  have h1 : a / b * b ≤ a := Nat.div_mul_le_self a b
  have h2 : a % b = a - a / b * b := by
    have := Nat.div_add_mod a b
    rw [Nat.mul_comm] at this
    omega
  rw [e1, e2, i_eq, i_sub (by rw [i_n (by omega), i_n (by omega)]; omega) (by rw [i_n (by omega), i_n (by omega)]; omega), i_n (by omega), i_n (by omega), i_n (by omega)]
  omega
theorem gcd_l (x0 x1 x2 : Int32) : ∀ k a b : Nat, b ≤ k → a < 2 ^ 31 → b < 2 ^ 31 → ∃ r, X1_common_r (k + 1) (nI a) (nI b) = some (nI r) ∧ (∀ n, k < n → lp_ (fun a : Int32 × Int32 => X4_portion_b5 x0 x1 x2 a.1 a.2) n (nI a, nI b) = some (nI r)) ∧ (0 < a ∨ 0 < b → 0 < r) ∧ r < 2 ^ 31 := by
  intro k
  induction k with
  | zero =>
    intro a b hk ha hb
    obtain rfl : b = 0 := by omega
    refine ⟨a, ?_, fun n hn => ?_, fun h => by omega, ha⟩
    · unfold X1_common_r X1_common_b
      rw [if_pos (show nI 0 = 0 from rfl)]
    · obtain ⟨f, rfl⟩ : ∃ f, n = f + 1 := ⟨n - 1, by omega⟩
      refine lp_end ?_ f
      show X4_portion_b5 x0 x1 x2 (nI a) (nI 0) = _
      unfold X4_portion_b5
      rw [if_pos (show nI 0 = 0 from rfl)]
  | succ k ih =>
    intro a b hk ha hb
    rcases Nat.eq_zero_or_pos b with rfl | hb0
    · refine ⟨a, ?_, fun n hn => ?_, fun h => by omega, ha⟩
      · unfold X1_common_r X1_common_b
        rw [if_pos (show nI 0 = 0 from rfl)]
      · obtain ⟨f, rfl⟩ : ∃ f, n = f + 1 := ⟨n - 1, by omega⟩
        refine lp_end ?_ f
        show X4_portion_b5 x0 x1 x2 (nI a) (nI 0) = _
        unfold X4_portion_b5
        rw [if_pos (show nI 0 = 0 from rfl)]
    · have hm := Nat.mod_lt a hb0
      obtain ⟨r, r1, r2, r3, r4⟩ := ih b (a % b) (by omega) hb (by omega)
      refine ⟨r, ?_, fun n hn => ?_, fun _ => r3 (Or.inl hb0), r4⟩
      · unfold X1_common_r X1_common_b
        rw [if_neg (nI_ne0 hb0 hb), e_dv (nI_ne0 hb0 hb), mod_l ha hb, r1, e_ob]
      · obtain ⟨f, rfl⟩ : ∃ f, n = f + 1 := ⟨n - 1, by omega⟩
        rw [lp_next (b := (nI b, nI (a % b))), r2 f (by omega)]
        show X4_portion_b5 x0 x1 x2 (nI a) (nI b) = _
        unfold X4_portion_b5
        rw [if_neg (nI_ne0 hb0 hb), e_dv (nI_ne0 hb0 hb), mod_l ha hb]
theorem part_l {s z : Nat} (hs : s < 2 ^ 31) (hz1 : 1 ≤ z) (hz : z ≤ 16) (what : Int32) : ∃ r, X1_part (nI s) (nI z) what = some r ∧ X4_portion (nI s) (nI z) what = some r := by
  obtain ⟨r, r1, r2, r3, r4⟩ : ∃ r, X1_common_r 40 (nI z) (nI s) = some (nI r) ∧ lp_ (fun a : Int32 × Int32 => X4_portion_b5 (nI s) (nI z) what a.1 a.2) fu_ (nI z, nI s) = some (nI r) ∧ 0 < r ∧ r < 2 ^ 31 := by
    rcases Nat.eq_zero_or_pos s with rfl | hs0
    · obtain ⟨r, r1, r2, r3, r4⟩ := gcd_l (nI 0) (nI z) what 39 z 0 (by omega) (by omega) (by omega)
      exact ⟨r, r1, r2 fu_ (by unfold fu_; omega), r3 (Or.inl hz1), r4⟩
    · have hm : z % s ≤ z := Nat.mod_le z s
      obtain ⟨r, r1, r2, r3, r4⟩ := gcd_l (nI s) (nI z) what 38 s (z % s) (by omega) hs (by omega)
      refine ⟨r, ?_, ?_, r3 (Or.inl hs0), r4⟩
      · show X1_common_b (X1_common_r 39) (nI z) (nI s) = _
        unfold X1_common_b
        rw [if_neg (nI_ne0 hs0 hs), e_dv (nI_ne0 hs0 hs), mod_l (by omega) hs, r1, e_ob]
      · have hf : fu_ = (fu_ - 1) + 1 := by unfold fu_; omega
        rw [hf, lp_next (b := (nI s, nI (z % s))), r2 _ (by unfold fu_; omega)]
        show X4_portion_b5 (nI s) (nI z) what (nI z) (nI s) = _
        unfold X4_portion_b5
        rw [if_neg (nI_ne0 hs0 hs), e_dv (nI_ne0 hs0 hs), mod_l (by omega) hs]
  unfold X1_part X4_portion X1_part_j15 X1_common
  rw [if_neg (nI_ne0 (by omega) (by omega)), r1, r2, e_ob, e_ob, e_ob]
  simp only [e_dv (nI_ne0 r3 r4)]
  by_cases h : what = 0
  · rw [if_pos h]
    exact ⟨_, rfl, rfl⟩
  · rw [if_neg h]
    exact ⟨_, rfl, rfl⟩
theorem part_0 (what : Int32) (h : what = 0 ∨ what = 1) : X1_part (nI 0) (nI 0) what = some what ∧ X4_portion (nI 0) 1 what = some what := by
  refine ⟨by unfold X1_part; rw [if_pos (show nI 0 = 0 from rfl)], ?_⟩
  have e : X4_portion (nI 0) 1 what = _ := rfl
  obtain ⟨r, -, r2, -⟩ := gcd_l (nI 0) 1 what 39 1 0 (by omega) (by omega) (by omega)
  have r3 : lp_ (fun a : Int32 × Int32 => X4_portion_b5 (nI 0) 1 what a.1 a.2) fu_ (1, nI 0) = some 1 := by
    have hf : fu_ = (fu_ - 1) + 1 := by unfold fu_; omega
    rw [hf]
    refine lp_end ?_ _
    show X4_portion_b5 (nI 0) 1 what 1 (nI 0) = _
    unfold X4_portion_b5
    rw [if_pos (show nI 0 = 0 from rfl)]
  unfold X4_portion
  rw [r3, e_ob, e_dv nn01, e_dv nn01]
  rcases h with rfl | rfl
  · rw [if_pos rfl]; rfl
  · rw [if_neg nn01]; rfl
theorem what1 {what : Int32} (hw : wi_ what 0 1 = true) : what = 0 ∨ what = 1 := by
  obtain ⟨h1, h2⟩ := wi_t.mp hw
  rw [k_0] at h1
  rw [k_1] at h2
  rw [i_eq, i_eq, k_0, k_1]
  omega
theorem op_next {a o : Nat} {g : GS} {σ : MS} (hr : Rel a o g σ) (x what : Int32) : OpT [(1, 1)] a o (X1_next a x what g) (X4_next x what σ) := by
  obtain ⟨ρ, sc, v, n, k, h, y, m, T, hp⟩ := hr
  have hp0 := hp.m (s0_eq (c := 0))
  unfold X1_next X4_next
  cases hw : wi_ what 0 1 with
  | false =>
    refine OpT.ex (e := 1) (q := gz g) (r := 0) (g' := g) (σ' := s_I (s_I σ 0 0) 0 1) (dc := 1) (ds := 6) ?_ ?_ (hp0.r s0_eq) (by omega) (by omega) (List.mem_cons_self)
    · rw [X1_oneOf_f hw, e_tcr, e_b0]
    · rw [X4_isWhat_f s0_0 hw, e_cb, if_pos rfl]
  | true =>
    rw [X1_oneOf_t hw, e_tcl, bp_0, X4_isWhat_t s0_0 hw, e_cb, if_neg nn01]
    obtain ⟨l, ys, b1, b2, b3, b4, b5, b6⟩ := hp0.2.2.2.2.2.2.2.1
    have ha := hp.1.1.1.1
    obtain ⟨e, e', dc, ds, m1, m2, m3, m4, ⟨s, m5, m6, m7⟩, m8⟩ := la2_t (body := fun a1 : Int32 × Int32 × GS => X1_next_b10 a x what a1.1 a1.2.1 a1.2.2) (body' := fun a : Int32 × Int32 => X4_next_b21 x what (s_I σ 0 0) a.1 a.2)
      (I := fun j a1 b c d => c = 0 ∧ d = 0 ∧ ∃ t s, a1.2.1 = nI t ∧ b.2 = nI t ∧ t ≤ ys.length ∧ j = ys.length - t ∧ a1.1 = nI s ∧ b.1 = nI s ∧ s ≤ t ∧ a1.2.2 = g)
      (Q := fun e e' c d => c = 0 ∧ d = 0 ∧ (∃ s, e.1 = nI s ∧ e' = nI s ∧ s ≤ ys.length) ∧ e.2 = g)
      (by
        rintro j ⟨s1, i1, g1⟩ ⟨s2, i2⟩ c d ⟨c0, d0, t, s, e1, e2, t1, t2, e3, e4, e5, e6⟩
        simp only at e1 e2 e3 e4 e6 ⊢
        subst c0 d0 e1 e2 e3 e4 e6
        unfold X1_next_b10 X4_next_b21
        rw [e_wk ha, b1, e_nn, e_wk b2.K, J2_size_l b2, e_ob, b3]
        by_cases ht : t < ys.length
        · obtain ⟨z, hz⟩ : ∃ z, ys[t]? = some z := ⟨_, List.getElem?_eq_getElem ht⟩
          obtain ⟨f1, f2, f3, f4⟩ := b5 t z hz
          rw [if_neg (nI_ge ht (by omega)), if_neg (nI_ge ht (by omega)), e_nn, e_wk b2.K, J2_get_l b2 hz, e_ob, e_rk f1, J19_intValue_l f1, e_ob, f4, e_inN (by omega) (by omega), nI_clamp (by omega)]
          unfold X1_next_j48 X4_next_j47
          by_cases q : x < m_A (s_I σ 0 0) 77 t
          · rw [if_pos q, if_pos q, Int32.add_zero, nI_1]
            exact Or.inl ⟨_, _, 0, 0, j - 1, by omega, rfl, rfl, rfl, rfl, t + 1, s, rfl, rfl, by omega, by omega, rfl, rfl, by omega, rfl⟩
          · rw [if_neg q, if_neg q, nI_1, nI_1]
            exact Or.inl ⟨_, _, 0, 0, j - 1, by omega, rfl, rfl, rfl, rfl, t + 1, s + 1, rfl, rfl, by omega, by omega, rfl, rfl, by omega, rfl⟩
        · rw [if_pos (nI_le (by omega) (by omega)), if_pos (nI_le (by omega) (by omega))]
          exact Or.inr ⟨_, _, 0, 0, rfl, rfl, rfl, rfl, ⟨s, rfl, rfl, by omega⟩, rfl⟩)
      fu_ ys.length (0, 0, g) (0, 0) 0 0 ⟨rfl, rfl, 0, 0, rfl, rfl, Nat.zero_le _, rfl, rfl, rfl, Nat.le_refl _, rfl⟩ (by unfold fu_; omega)
    obtain ⟨e1, e2⟩ := e
    simp only at m5 m8
    subst m5 m6 m8
    obtain ⟨rfl⟩ : dc = 0 := by omega
    obtain ⟨rfl⟩ : ds = 0 := by omega
    rw [m1, e_oa, bp_0, m2, e_ob, e_wk ha, b1, e_nn, e_wk b2.K, J2_size_l b2, e_ob, b3]
    unfold X4_next_j71
    rcases Nat.eq_zero_or_pos ys.length with hz | hz
    · have hs0 : s = 0 := by omega
      obtain ⟨p1, p2⟩ := part_0 what (what1 hw)
      rw [hz, hs0, if_pos (show nI 0 = 0 from rfl), p1, p2, e_ob, e_ob]
      exact OpT.ok (dc := 0) (ds := 0) rfl rfl (hp0.r MEq.rf) (by omega) (by omega) s0_0
    · obtain ⟨r, p1, p2⟩ := part_l (s := s) (z := ys.length) (by omega) hz b4 what
      rw [if_neg (nI_ne0 hz (by omega)), p1, p2, e_ob, e_ob]
      exact OpT.ok (dc := 0) (ds := 0) rfl rfl (hp0.r MEq.rf) (by omega) (by omega) s0_0
theorem op_middle {a o : Nat} {g : GS} {σ : MS} (hr : Rel a o g σ) (what : Int32) : OpT [(1, 1)] a o (X1_middle a what g) (X4_middle what σ) := by
  obtain ⟨ρ, sc, v, n, k, h, y, m, T, hp⟩ := hr
  have hp0 := hp.m (s0_eq (c := 0))
  unfold X1_middle X4_middle
  cases hw : wi_ what 0 2 with
  | false =>
    refine OpT.ex (e := 1) (q := gz g) (r := 0) (g' := g) (σ' := s_I (s_I σ 0 0) 0 1) (dc := 1) (ds := 6) ?_ ?_ (hp0.r s0_eq) (by omega) (by omega) (List.mem_cons_self)
    · rw [X1_oneOf_f hw, e_tcr, e_b0]
    · rw [X4_isWhat_f s0_0 hw, e_cb, if_pos rfl]
  | true =>
    rw [X1_oneOf_t hw, e_tcl, bp_0, X4_isWhat_t s0_0 hw, e_cb, if_neg nn01]
    obtain ⟨l, ys, b1, b2, b3, b4, b5, b6⟩ := hp0.2.2.2.2.2.2.2.1
    have ha := hp.1.1.1.1
    obtain ⟨e, e', dc, ds, m1, m2, m3, m4, ⟨s, m5, m6, m7⟩, m8, m9, m10⟩ := la2_t (body := fun a1 : Int32 × Int32 × Int32 × Int32 × GS => X1_middle_b17 a what a1.1 a1.2.1 a1.2.2.1 a1.2.2.2.1 a1.2.2.2.2) (body' := fun a : Int32 × Int32 × Int32 × Int32 => X4_middle_b26 what (s_I σ 0 0) a.1 a.2.1 a.2.2.1 a.2.2.2)
      (I := fun j a1 b c d => c = 0 ∧ d = 0 ∧ ∃ t s, a1.2.2.2.1 = nI t ∧ b.2.2.2 = nI t ∧ t ≤ ys.length ∧ j = ys.length - t ∧ a1.1 = nI s ∧ b.1 = nI s ∧ s ≤ 480 * t ∧ (0 < t → a1.2.1 = b.2.1 ∧ a1.2.2.1 = b.2.2.1) ∧ (t = 0 → a1.2.1 = 0 ∧ a1.2.2.1 = 480 ∧ b.2.1 = 0 ∧ b.2.2.1 = 0) ∧ a1.2.2.2.2 = g)
      (Q := fun e e' c d => c = 0 ∧ d = 0 ∧ (∃ s, e.1 = nI s ∧ e'.1 = nI s ∧ s ≤ 480 * ys.length) ∧ (0 < ys.length → e.2.1 = e'.2.1 ∧ e.2.2.1 = e'.2.2) ∧ (ys.length = 0 → e'.2.1 = 0 ∧ e'.2.2 = 0) ∧ e.2.2.2 = g)
      (by
        rintro j ⟨s1, mx1, mn1, i1, g1⟩ ⟨s2, mx2, mn2, i2⟩ c d ⟨c0, d0, t, s, e1, e2, t1, t2, e3, e4, e5, e6, e7, e8⟩
        simp only at e1 e2 e3 e4 e6 e7 e8 ⊢
        subst c0 d0 e1 e2 e3 e4 e8
        unfold X1_middle_b17 X4_middle_b26
        rw [e_wk ha, b1, e_nn, e_wk b2.K, J2_size_l b2, e_ob, b3]
        by_cases ht : t < ys.length
        · obtain ⟨z, hz⟩ : ∃ z, ys[t]? = some z := ⟨_, List.getElem?_eq_getElem ht⟩
          obtain ⟨f1, f2, f3, f4⟩ := b5 t z hz
          obtain ⟨w1, w2⟩ := b6 t ht
          obtain ⟨w, hw⟩ : ∃ w, w = m_A (s_I σ 0 0) 77 t := ⟨_, rfl⟩
          rw [← hw] at f4 w1 w2
          have hj102 : ∀ p1 p2 p3, X4_middle_j102 what p1 p2 (nI t) p3 (s_I σ 0 0) = some (.inl (p1, p2, p3, nI (t + 1))) := fun p1 p2 p3 => by
            unfold X4_middle_j102
            rw [nI_1]
          have hj90 : ∀ p1 p2, X4_middle_j90 what p1 p2 (nI t) (s_I σ 0 0) = some (.inl (p1, p2, w, nI (t + 1))) := fun p1 p2 => by
            unfold X4_middle_j90
            rw [e_inN (by omega) (by omega), nI_clamp (by omega), ← hw, hj102]
          have hj72 : ∀ p1 t0, X4_middle_j72 what p1 mn2 (nI t) t0 (s_I σ 0 0) = some (.inl (p1, t0, if t = 0 then w else if mn2 ≤ w then mn2 else w, nI (t + 1))) := fun p1 t0 => by
            unfold X4_middle_j72
            rcases Nat.eq_zero_or_pos t with q | q
            · rw [if_pos (by rw [q]; rfl), hj90, if_pos q]
            · rw [if_neg (nI_ne0 q (by omega)), e_inN (by omega) (by omega), nI_clamp (by omega), ← hw, hj102, hj90, if_neg (show ¬ t = 0 by omega)]
              split <;> rfl
          have hj61 : ∀ p1, X4_middle_j61 what p1 mn2 (nI t) (s_I σ 0 0) = some (.inl (p1, w, if t = 0 then w else if mn2 ≤ w then mn2 else w, nI (t + 1))) := fun p1 => by
            unfold X4_middle_j61
            rw [e_inN (by omega) (by omega), nI_clamp (by omega), ← hw, hj72]
          obtain ⟨n, hn, hn2, -⟩ := i_nat (x := w) (by omega)
          have hsum : nI s + w = nI (s + n) := by rw [hn, nI_add]
          rw [if_neg (nI_ge ht (by omega)), if_neg (nI_ge ht (by omega)), e_nn, e_wk b2.K, J2_get_l b2 hz, e_ob, e_rk f1, J19_intValue_l f1, e_ob, f4, e_nn, e_wk b2.K, J2_get_l b2 hz, e_ob, e_rk f1, J19_intValue_l f1, e_ob, f4, e_nn, e_wk b2.K, J2_get_l b2 hz, e_ob, e_rk f1, J19_intValue_l f1, e_ob, f4, e_inN (by omega) (by omega), nI_clamp (by omega), ← hw, hsum, nI_1]
          rcases Nat.eq_zero_or_pos t with q | q
          · obtain ⟨z1, z2, -, -⟩ := e7 q
            have hmx : jmax_ mx1 w = w := by
              unfold jmax_
              rw [z1, if_pos (by rw [i_lt, k_0]; omega)]
            have hmn : jmin_ mn1 w = w := by
              unfold jmin_
              rw [z2]
              have k480 : ((480 : Int32)).toInt = 480 := by decide
              by_cases k : w < 480
              · rw [if_pos k]
              · rw [if_neg k, i_eq, k480]
                rw [i_lt, k480] at k
                omega
            rw [if_pos (by rw [q]; rfl), hj61, if_pos q, hmx, hmn]
            exact Or.inl ⟨_, _, 0, 0, j - 1, by omega, rfl, rfl, rfl, rfl, t + 1, s + n, rfl, rfl, by omega, by omega, rfl, rfl, by omega, fun _ => ⟨rfl, rfl⟩, fun k => by omega, rfl⟩
          · obtain ⟨z1, z2⟩ := e6 q
            have ht0 : ¬ t = 0 := by omega
            simp only [if_neg ht0] at hj72 hj61
            rw [if_neg (nI_ne0 q (by omega)), e_inN (by omega) (by omega), hj72, hj61, z1, z2]
            have hmn : jmin_ mn2 w = (if mn2 ≤ w then mn2 else w) := by
              unfold jmin_
              by_cases k : mn2 ≤ w
              · rw [if_pos k, if_neg (by rw [nlt_le]; exact k)]
              · rw [if_neg k, if_pos (nle_lt.mp k)]
            have hmx : jmax_ mx2 w = (if w ≤ mx2 then mx2 else w) := by
              unfold jmax_
              by_cases k : w ≤ mx2
              · rw [if_pos k, if_neg (by rw [nlt_le]; exact k)]
              · rw [if_neg k, if_pos (nle_lt.mp k)]
            rw [hmn, hmx]
            by_cases k : w ≤ mx2
            · simp only [if_pos k]
              exact Or.inl ⟨_, _, 0, 0, j - 1, by omega, rfl, rfl, rfl, rfl, t + 1, s + n, rfl, rfl, by omega, by omega, rfl, rfl, by omega, fun _ => ⟨rfl, rfl⟩, fun k => by omega, rfl⟩
            · simp only [if_neg k]
              exact Or.inl ⟨_, _, 0, 0, j - 1, by omega, rfl, rfl, rfl, rfl, t + 1, s + n, rfl, rfl, by omega, by omega, rfl, rfl, by omega, fun _ => ⟨rfl, rfl⟩, fun k => by omega, rfl⟩
        · rw [if_pos (nI_le (by omega) (by omega)), if_pos (nI_le (by omega) (by omega))]
          exact Or.inr ⟨_, _, 0, 0, rfl, rfl, rfl, rfl, ⟨s, rfl, rfl, by omega⟩, fun k => e6 (by omega), fun k => ⟨(e7 (by omega)).2.2.1, (e7 (by omega)).2.2.2⟩, rfl⟩)
      fu_ ys.length (0, 0, 480, 0, g) (0, 0, 0, 0) 0 0 ⟨rfl, rfl, 0, 0, rfl, rfl, Nat.zero_le _, rfl, rfl, rfl, Nat.zero_le _, fun k => by omega, fun _ => ⟨rfl, rfl, rfl, rfl⟩, rfl⟩ (by unfold fu_; omega)
    obtain ⟨e1, e2, e3, e4⟩ := e
    obtain ⟨f1, f2, f3⟩ := e'
    simp only at m5 m6 m8 m9 m10
    subst m5 m6 m10
    obtain ⟨rfl⟩ : dc = 0 := by omega
    obtain ⟨rfl⟩ : ds = 0 := by omega
    rw [m1, e_oa, bp_0, m2, e_ob]
    dsimp only
    rw [e_wk ha, e_wk ha, b1, e_nn, e_nn, e_wk b2.K, e_wk b2.K, J2_size_l b2, e_ob, J2_isEmpty_l b2, e_ob, b3]
    have k2 : ((2 : Int32)).toInt = 2 := by decide
    obtain ⟨w1, w2⟩ := wi_t.mp hw
    rw [k_0] at w1
    rw [k2] at w2
    by_cases h2 : what = 2
    · rw [if_pos (by rw [h2]; decide), if_pos h2]
      rcases Nat.eq_zero_or_pos ys.length with hz | hz
      · obtain ⟨q1, q2⟩ := m9 hz
        rw [if_pos hz, if_neg nn01, q1, q2]
        exact OpT.ok (dc := 0) (ds := 0) rfl rfl (hp0.r MEq.rf) (by omega) (by omega) s0_0
      · obtain ⟨q1, q2⟩ := m8 hz
        rw [if_neg (show ¬ ys.length = 0 by omega), if_pos rfl, q1, q2]
        exact OpT.ok (dc := 0) (ds := 0) rfl rfl (hp0.r MEq.rf) (by omega) (by omega) s0_0
    · have h2' : ¬ (2 : Int32) ≤ what := by
        rw [i_eq, k2] at h2
        rw [i_le, k2]
        omega
      rw [if_neg h2', if_neg h2]
      unfold X4_middle_j138
      rcases Nat.eq_zero_or_pos ys.length with hz | hz
      · have hs0 : s = 0 := by omega
        have hwh : what = 0 ∨ what = 1 := by
          rw [i_eq, k2] at h2
          rw [i_eq, i_eq, k_0, k_1]
          omega
        obtain ⟨p1, p2⟩ := part_0 what hwh
        rw [hz, hs0, if_pos (show nI 0 = 0 from rfl), p1, p2, e_ob, e_ob]
        exact OpT.ok (dc := 0) (ds := 0) rfl rfl (hp0.r MEq.rf) (by omega) (by omega) s0_0
      · obtain ⟨r, p1, p2⟩ := part_l (s := s) (z := ys.length) (by omega) hz b4 what
        rw [if_neg (nI_ne0 hz (by omega)), p1, p2, e_ob, e_ob]
        exact OpT.ok (dc := 0) (ds := 0) rfl rfl (hp0.r MEq.rf) (by omega) (by omega) s0_0
