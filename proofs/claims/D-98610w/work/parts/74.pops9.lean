/-! LAWS: fits (own work) -/
set_option maxRecDepth 100000
theorem GS.ext' {g g' : GS} (h1 : ∀ q, gK g q = gK g' q) (h2 : ∀ q, gN g q = gN g' q) (h3 : ∀ q i, gI g q i = gI g' q i) (h4 : ∀ q i, gR g q i = gR g' q i) (h5 : gz g = gz g') (h6 : gS g = gS g') : g = g' := by
  obtain ⟨a, b, c, d, e, f⟩ := g
  obtain ⟨a', b', c', d', e', f'⟩ := g'
  have e1 : a = a' := funext h1
  have e2 : b = b' := funext h2
  have e3 : c = c' := funext fun j => funext fun i => h3 j i
  have e4 : d = d' := funext fun j => funext fun i => h4 j i
  have e5 : e = e' := h5
  have e6 : f = f' := h6
  rw [e1, e2, e3, e4, e5, e6]
theorem pI_pI {g : GS} {a k : Nat} {v w : Int32} : pI (pI g a k v) a k w = pI g a k w := by
  refine GS.ext' (fun _ => rfl) (fun _ => rfl) (fun b i => ?_) (fun _ _ => rfl) rfl rfl
  rw [I_pI, I_pI, I_pI]
  by_cases h : b = a ∧ i = k
  · rw [if_pos h, if_pos h]
  · rw [if_neg h, if_neg h, if_neg h]
theorem pI_cm {g : GS} {a b k j : Nat} {v w : Int32} (hab : ¬ a = b) : pI (pI g a k v) b j w = pI (pI g b j w) a k v := by
  refine GS.ext' (fun _ => rfl) (fun _ => rfl) (fun c i => ?_) (fun _ _ => rfl) rfl rfl
  rw [I_pI, I_pI, I_pI, I_pI]
  by_cases h : c = b ∧ i = j
  · rw [if_pos h, if_neg (by rintro ⟨q, -⟩; exact hab (q.symm.trans h.1)), if_pos h]
  · rw [if_neg h]
    by_cases h2 : c = a ∧ i = k
    · rw [if_pos h2, if_pos h2]
    · rw [if_neg h2, if_neg h2, if_neg h]
theorem op_fits {a o : Nat} {g : GS} {σ : MS} (hr : Rel a o g σ) (what : Int32) : OpT [(1, 1)] a o (X1_fits a what g) (X4_fits what σ) := by
  obtain ⟨ρ, sc, v, n, k, h, y, m, T, hp⟩ := hr
  have hp0 := hp.m (s0_eq (c := 0))
  obtain ⟨-, hs1, hT6⟩ := hp0.1
  unfold X1_fits X4_fits
  cases hw : wi_ what 0 1 with
  | false =>
    refine OpT.ex (e := 1) (q := gz g) (r := 0) (g' := g) (σ' := s_I (s_I σ 0 0) 0 1) (dc := 1) (ds := 6) ?_ ?_ (hp0.r s0_eq) (by omega) (by omega) (List.mem_cons_self)
    · rw [X1_oneOf_f hw, e_tcr, e_b0]
    · rw [X4_isWhat_f s0_0 hw, e_cb, if_pos rfl]
  | true =>
    rw [X1_oneOf_t hw, e_tcl, bp_0, X4_isWhat_t s0_0 hw, e_cb, if_neg nn01]
    obtain ⟨g1, g2, ρ2, dc1, ds1, a1, a2, a3, a4, a5, a6, a7, a8, a9, a10⟩ := newtakec hp0
    have hC := hp0.1.1
    have h5 : m_I (s_I σ 0 0) 5 = nI h := hC.2.2.2.2.1.2.2.1
    have h4 : h ≤ 4 := hC.2.2.2.2.1.2.2.2
    obtain ⟨l2, xs2, q21, q22, q23, -⟩ := hC.2.2.2.2.2.1.2.2
    have hscl := hC.2.2.2.1.2.2.1
    have hsv : ¬ sc = v := by
      intro q
      have q1 := hC.2.2.2.1.1
      rw [q, hp.1.1.2.1.1] at q1
      omega
    have hux : ¬ gz g = gz g + 1 := by omega
    obtain ⟨was, hwas⟩ : ∃ was, was = m_A (s_I σ 0 0) 53 5 := ⟨_, rfl⟩
    have hwr : -1 ≤ was.toInt ∧ was.toInt < h := by
      have := a3.2.2.2.2.2.2.2.2.2.2.2.1
      rw [hwas]; exact this
    have hT0 : TW (pI g2 (gz g + 1) 4 was) ρ2 a sc v (gz g) (gz g + 1) (gz g1) (gz g1 + 1) (gz g1 + 2) 10 m n k h (s_I σ 0 0) := by
      have := a3.px (f := 4) (f' := 5) (w := was) (by omega) (a3.2.2.2.2.2.2.put (by omega))
      rw [sA_id hwas] at this
      exact this
    obtain ⟨e, e', dc, ds, m1, m2, m3, m4, m5, m6, m7, m8, m9⟩ := la2_t (body := fun a1 : Int32 × Int32 × Int32 × GS => X1_fits_b29 a what (gz g) a1.1 a1.2.1 a1.2.2.1 a1.2.2.2) (body' := fun a : Int32 × Int32 × Int32 × MS => X4_fits_b31 what was a.1 a.2.1 a.2.2.1 a.2.2.2)
      (I := fun j a1 b c d => c = 0 ∧ d = 0 ∧ ∃ t cnt w, a1.2.2.1 = nI t - 1 ∧ b.2.2.1 = nI t - 1 ∧ t ≤ h + 1 ∧ j = h + 1 - t ∧ a1.1 = nI cnt ∧ b.1 = nI cnt ∧ cnt ≤ 21 * t ∧ a1.2.1 = b.2.1 ∧ (b.2.1 = -1 ↔ cnt = 0) ∧ TW (pI a1.2.2.2 (gz g + 1) 4 w) ρ2 a sc v (gz g) (gz g + 1) (gz g1) (gz g1 + 1) (gz g1 + 2) 10 m n k h b.2.2.2 ∧ Fr (fun q => q = v) g a1.2.2.2 ∧ Mf [59] [53, 57, 58, 61, 62, 63] (s_I σ 0 0) b.2.2.2 ∧ ∀ i, i ≠ 5 → m_A b.2.2.2 53 i = m_A (s_I σ 0 0) 53 i)
      (Q := fun e e' c d => c = 0 ∧ d = 0 ∧ e.1 = e'.1 ∧ e.2.1 = e'.2.1 ∧ Fr (fun q => q = v) g e.2.2 ∧ Mf [59] [53, 57, 58, 61, 62, 63] (s_I σ 0 0) e'.2.2 ∧ ∀ i, i ≠ 5 → m_A e'.2.2 53 i = m_A (s_I σ 0 0) 53 i)
      (by
        rintro j ⟨q1, q2, i1, g3⟩ ⟨p1, p2, i2, σ3⟩ c d ⟨c0, d0, t, cnt, w, e1, e2, t1, t2, e3, e4, e5, u1, u2, u3, u4, u5, u6⟩
        simp only at e1 e2 e3 e4 u1 u2 u3 u4 u5 u6 ⊢
        subst c0 d0 e1 e2 e3 e4 u1
        have hti : (nI t - 1).toInt = (t : Int) - 1 := by
          have q1 : (nI t).toInt = (t : Int) := i_n (by omega)
          rw [i_sub (by rw [q1, k_1]; omega) (by rw [q1, k_1]; omega), q1, k_1]
        have ha3 : gK g3 a = 1 := u3.1.1.1
        have has : gR g3 a 0 = sc + 1 := u3.1.1.2.2.2.1
        have hks : gK g3 sc = 2 := u3.1.2.2.2.1.1
        have hl3 : gR g3 sc 2 = l2 + 1 := by rw [u4.R hscl hsv, q21]
        have hL3 : LiP g3 ρ 0 l2 xs2 := q22.to u4 Ag.rf (fun q _ k1 k2 => by rw [k2, hC.2.1.2.2.1] at k1; omega)
        have hlen : nI xs2.length = nI h := by rw [q23]
        unfold X1_fits_b29 X4_fits_b31
        rw [e_wk ha3, has, e_nn, e_wk hks, hl3, e_nn, e_wk hL3.K, J2_size_l hL3, e_ob, hlen, u5.I (by decide), h5]
        by_cases ht : t ≤ h
        · have hlt : ¬ nI h ≤ nI t - 1 := by rw [i_le, hti, i_n (by omega)]; omega
          rw [if_neg hlt, if_neg hlt, e_wk (by exact u3.2.1.1.1), e_i5 (by omega) (by omega), cl_5]
          obtain ⟨hd, hhd⟩ : ∃ hd, hd = nI t - 1 := ⟨_, rfl⟩
          have hd1 : hd + 1 = nI t := by rw [hhd, Int32.sub_add_cancel]
          rw [← hhd] at hti ⊢
          have w1 : TW (pI g3 (gz g + 1) 4 hd) ρ2 a sc v (gz g) (gz g + 1) (gz g1) (gz g1 + 1) (gz g1 + 2) 10 m n k h (s_A σ3 53 5 hd) := by
            have := u3.px (f := 4) (f' := 5) (w := hd) (by omega) (u3.2.2.2.2.2.2.put (by omega))
            rw [pI_pI] at this
            exact this
          have w2 : TW (pI (pI g3 (gz g) 4 0) (gz g + 1) 4 hd) ρ2 a sc v (gz g) (gz g + 1) (gz g1) (gz g1 + 1) (gz g1 + 2) 10 m n k h (s_I (s_A σ3 53 5 hd) 59 0) := by
            rw [pI_cm hux]
            exact w1.pu (f := 4) (w := 0) (w1.2.2.1.at4 (by decide)) (Mf.sI (LI := [59, 60, 64]) (LA := []) (by decide))
          obtain ⟨e, e', dc, ds, m1, m2, m3, m4, cn, m5, m6, m7, m8, m9, m10, m11, m12, m13⟩ := la2_t (body := fun a1 : Int32 × Int32 × GS => X1_fits_b51 a what (gz g) hd a1.1 a1.2.1 a1.2.2) (body' := fun a : Int32 × Int32 × MS => X4_fits_b53 what was hd a.1 a.2.1 a.2.2)
            (I := fun j a1 b c d => c = 0 ∧ d = 0 ∧ ∃ l cn, m_I b.2.2 59 = nI l ∧ l ≤ 21 ∧ j = 21 - l ∧ a1.1 = nI cn ∧ b.1 = nI cn ∧ cn ≤ 21 * t + l ∧ a1.2.1 = b.2.1 ∧ (b.2.1 = -1 ↔ cn = 0) ∧ TW (pI a1.2.2 (gz g + 1) 4 hd) ρ2 a sc v (gz g) (gz g + 1) (gz g1) (gz g1 + 1) (gz g1 + 2) 10 m n k h b.2.2 ∧ Fr (fun q => q = v) g a1.2.2 ∧ Mf [59] [53, 57, 58, 61, 62, 63] (s_I σ 0 0) b.2.2 ∧ (∀ i, i ≠ 5 → m_A b.2.2 53 i = m_A (s_I σ 0 0) 53 i) ∧ m_A b.2.2 53 5 = hd)
            (Q := fun e e' c d => c = 0 ∧ d = 0 ∧ ∃ cn, e.1 = nI cn ∧ e'.1 = nI cn ∧ cn ≤ 21 * t + 21 ∧ e.2.1 = e'.2.1 ∧ (e'.2.1 = -1 ↔ cn = 0) ∧ TW (pI e.2.2 (gz g + 1) 4 hd) ρ2 a sc v (gz g) (gz g + 1) (gz g1) (gz g1 + 1) (gz g1 + 2) 10 m n k h e'.2.2 ∧ Fr (fun q => q = v) g e.2.2 ∧ Mf [59] [53, 57, 58, 61, 62, 63] (s_I σ 0 0) e'.2.2 ∧ (∀ i, i ≠ 5 → m_A e'.2.2 53 i = m_A (s_I σ 0 0) 53 i))
            (by
              rintro j ⟨q1, q2, g3⟩ ⟨p1, p2, σ3⟩ c d ⟨c0, d0, l, cn, e1, l1, l2, e3, e4, e5, u1, u2, u3, u4, u5, u6, u7⟩
              simp only at e1 e3 e4 u1 u2 u3 u4 u5 u6 u7 ⊢
              subst c0 d0 e3 e4 u1
              have hu4 : gI g3 (gz g) 4 = nI l := by
                have k1 : gI (pI g3 (gz g + 1) 4 hd) (gz g) 4 = m_I σ3 59 := u3.2.2.1.1.1
                rw [I_pI, if_neg (by rintro ⟨k, -⟩; exact hux k), e1] at k1
                exact k1
              have hku : gK g3 (gz g) = 10 := u3.2.1.1.1
              have hkx : gK g3 (gz g + 1) = 3 := u3.2.2.2.2.1.1
              have hrx : gR g3 (gz g) 0 = gz g + 1 + 1 := u3.2.1.2.1.1
              unfold X1_fits_b51 X4_fits_b53
              rw [e_wk hku, hu4, e1]
              by_cases hl : l ≤ 20
              · have hlt : ¬ (20 : Int32) < nI l := nI_nlt (b := l) (a := 20) hl (by omega)
                obtain ⟨r, g4, σ4, f1, f2, f3, f4, f5, f6, f7, f8, f9⟩ := u3.rs (T := T) (by rw [u5.Af (by decide)]; exact hs1) hT6
                have hF4 : Fr (fun q => q = v) g g4 := (u4.trans (Fr.pI (W := fun q => q = gz g + 1) rfl) (fun q hq k => by omega)).trans f6 (fun q hq k => by
                  rcases k with k | k | k | k
                  · exact k
                  · omega
                  · omega
                  · omega)
                have hM4 : Mf [59] [53, 57, 58, 61, 62, 63] (s_I σ 0 0) σ4 := u5.trans f8 (fun _ k => by cases k) (by decide)
                have hrow4 : ∀ i, m_A σ4 53 i = m_A σ3 53 i := f8.A (j := 53) (by decide)
                obtain ⟨w, s1, s2, s3⟩ := hp0.seen hF4 f5 (hM4.Af (by decide)) (hM4.I (by decide))
                have hT4 := f5.1
                have e14 : m_I σ4 59 = nI l := by rw [f8.I (by decide), e1]
                have hu44 : gI g4 (gz g) 4 = nI l := by rw [hT4.2.2.1.1.1, e14]
                have hT5 : TW (pI g4 (gz g) 4 (nI (l + 1))) ρ2 a sc v (gz g) (gz g + 1) (gz g1) (gz g1 + 1) (gz g1 + 2) 10 m n k h (s_I σ4 59 (nI (l + 1))) := hT4.pu (f := 4) (w := nI (l + 1)) (hT4.2.2.1.at4 (by rw [i_n (by omega)]; omega)) (Mf.sI (LI := [59, 60, 64]) (LA := []) (by decide))
                have hT6' : TW (pI (pI g4 (gz g) 4 (nI (l + 1))) (gz g + 1) 4 hd) ρ2 a sc v (gz g) (gz g + 1) (gz g1) (gz g1 + 1) (gz g1 + 2) 10 m n k h (s_I σ4 59 (nI (l + 1))) := by
                  have := hT5.px (f := 4) (f' := 5) (w := hd) (by omega) (hT5.2.2.2.2.2.2.put (by omega))
                  rw [sA_id (by rw [rA_sI, hrow4, u7])] at this
                  exact this
                have step : ∀ (cn' : Nat) (p2' : Int32), cn' ≤ cn + 1 → (p2' = -1 ↔ cn' = 0) → ∃ a' b'' dc dk m', m' < j ∧ X1_fits_j103 a what (gz g) (nI cn') p2' hd g4 = some (.inl a', dc, dk) ∧ X4_fits_j99 what was (nI cn') p2' hd σ4 = some (.inl b'') ∧ dc + 0 = 0 ∧ dk + 0 = 0 ∧ ∃ l cn, m_I b''.2.2 59 = nI l ∧ l ≤ 21 ∧ m' = 21 - l ∧ a'.1 = nI cn ∧ b''.1 = nI cn ∧ cn ≤ 21 * t + l ∧ a'.2.1 = b''.2.1 ∧ (b''.2.1 = -1 ↔ cn = 0) ∧ TW (pI a'.2.2 (gz g + 1) 4 hd) ρ2 a sc v (gz g) (gz g + 1) (gz g1) (gz g1 + 1) (gz g1 + 2) 10 m n k h b''.2.2 ∧ Fr (fun q => q = v) g a'.2.2 ∧ Mf [59] [53, 57, 58, 61, 62, 63] (s_I σ 0 0) b''.2.2 ∧ (∀ i, i ≠ 5 → m_A b''.2.2 53 i = m_A (s_I σ 0 0) 53 i) ∧ m_A b''.2.2 53 5 = hd := by
                  intro cn' p2' k1 k2
                  unfold X1_fits_j103 X4_fits_j99
                  rw [e_wk hT4.2.1.1.1, hu44, e14, nI_1]
                  exact ⟨_, _, 0, 0, j - 1, by omega, rfl, rfl, rfl, rfl, l + 1, cn', rfl, by omega, by omega, rfl, rfl, by omega, rfl, k2, hT6', hF4.trans (Fr.pI (W := fun q => q = gz g) rfl) (fun q hq k => by omega), hM4.trans (Mf.sI (LI := [59]) (LA := []) (by decide)) (fun _ k => k) (fun _ k => by cases k), fun i hi => by show m_A σ4 53 i = _; rw [hrow4, u6 i hi], by show m_A σ4 53 5 = _; rw [hrow4, u7]⟩
                rw [if_neg hlt, if_neg hlt, hrx, e_nn, e_wk hkx, f1, e_cb, e_wk hT4.2.1.1.1, f3, e_ob, s1, e_ob, s2, e_ob]
                rcases s3 with q | q
                · rw [q, if_pos rfl, if_pos rfl]
                  exact Or.inl (step cn _ (by omega) u2)
                · rw [q, if_neg nn01, if_neg nn01]
                  unfold X1_fits_j100
                  by_cases hc0 : cn = 0
                  · have hp2 : q2 = -1 := u2.mpr hc0
                    have hnz : ¬ (100 * (hd + 1) + nI l) = -1 := by
                      have q1 : (nI t).toInt = (t : Int) := i_n (by omega)
                      have q2 : (nI l).toInt = (l : Int) := i_n (by omega)
                      have k100 : ((100 : Int32)).toInt = 100 := by decide
                      have q3 : (100 * nI t).toInt = 100 * (t : Int) := by rw [i_mul (by rw [q1, k100]; omega) (by rw [q1, k100]; omega), q1, k100]
                      rw [hd1, i_eq, i_add (by rw [q3, q2]; omega) (by rw [q3, q2]; omega), q3, q2, k_n1]
                      omega
                    rw [if_pos hp2, hc0, if_pos (show nI 0 = 0 from rfl), e_wk hT4.2.1.1.1, hu44, e14]
                    have := step 1 (100 * (hd + 1) + nI l) (by omega) ⟨fun q => absurd q hnz, fun q => by omega⟩
                    rw [nI_1]
                    exact Or.inl this
                  · have hp2 : ¬ q2 = -1 := fun k => hc0 (u2.mp k)
                    rw [if_neg hp2, if_neg (nI_ne0 (by omega) (by omega)), nI_1]
                    exact Or.inl (step (cn + 1) q2 (by omega) ⟨fun q => absurd q hp2, fun q => by omega⟩)
              · have hlt : (20 : Int32) < nI l := nI_lt (a := 20) (b := l) (by omega) (by omega)
                rw [if_pos hlt, if_pos hlt]
                exact Or.inr ⟨_, _, 0, 0, rfl, rfl, rfl, rfl, cn, rfl, rfl, by omega, rfl, u2, u3, u4, u5, u6⟩)
            fu_ 21 (nI cnt, q2, pI g3 (gz g) 4 0) (nI cnt, q2, s_I (s_A σ3 53 5 hd) 59 0) 0 0 ⟨rfl, rfl, 0, cnt, rfl, by omega, rfl, rfl, rfl, by omega, rfl, u2, w2, u4.trans (Fr.pI (W := fun q => q = gz g) rfl) (fun q hq k => by omega), (u5.trans (Mf.sA (LI := []) (LA := [53]) (by decide)) (fun _ k => by cases k) (by decide)).trans (Mf.sI (LI := [59]) (LA := []) (by decide)) (fun _ k => k) (fun _ k => by cases k), fun i hi => by rw [rA_sI, rA_sA, if_neg (by rintro ⟨-, k⟩; exact hi k), u6 i hi], by rw [rA_sI, rA_sA, if_pos ⟨rfl, rfl⟩]⟩ (by unfold fu_; omega)
          obtain ⟨e1, e2, e3⟩ := e
          obtain ⟨f1, f2, f3⟩ := e'
          simp only at m5 m6 m8 m9 m10 m11 m12 m13
          obtain ⟨rfl⟩ : dc = 0 := by omega
          obtain ⟨rfl⟩ : ds = 0 := by omega
          subst m5 m6 m8
          rw [m1, e_oa, bp_0, m2, e_ob, hd1]
          refine Or.inl ⟨_, _, 0, 0, j - 1, by omega, rfl, rfl, rfl, rfl, t + 1, cn, hd, ?_, ?_, by omega, by omega, rfl, rfl, by omega, rfl, m9, m10, m11, m12, m13⟩
          · show nI t = nI (t + 1) - 1
            rw [← nI_1, Int32.add_sub_cancel]
          · show nI t = nI (t + 1) - 1
            rw [← nI_1, Int32.add_sub_cancel]
        · have hlt : nI h ≤ nI t - 1 := by rw [i_le, hti, i_n (by omega)]; omega
          rw [if_pos hlt, if_pos hlt]
          exact Or.inr ⟨_, _, 0, 0, rfl, rfl, rfl, rfl, rfl, rfl, u4, u5, u6⟩)
      fu_ (h + 1) (0, (-1), (-1), g2) (0, (-1), (-1), s_I σ 0 0) 0 0 ⟨rfl, rfl, 0, 0, was, rfl, rfl, by omega, rfl, rfl, rfl, by omega, rfl, ⟨fun _ => rfl, fun _ => rfl⟩, hT0, a5.mono (fun _ _ k => k.elim), Mf.rf, fun _ _ => rfl⟩ (by unfold fu_; omega)
    obtain ⟨e1, e2, e3⟩ := e
    obtain ⟨f1, f2, f3⟩ := e'
    simp only at m5 m6 m7 m8 m9
    obtain ⟨rfl⟩ : dc = 0 := by omega
    obtain ⟨rfl⟩ : ds = 0 := by omega
    subst m5 m6
    have hav : ¬ a = gz g := by have := hp.1.1.1.2.2.1; omega
    have hyv : ¬ y = gz g := by have := hp.2.1.2.1.2.2.1; omega
    have hM : MEq (s_I σ 0 0) (s_A (s_I f3 59 0) 53 5 (m_A (s_I σ 0 0) 53 5)) := by
      refine ⟨fun k hk => ?_, fun j hj => ?_⟩
      · rw [rI_sA, rI_sI]
        by_cases q : k = 59
        · rw [if_pos q, q]; exact hp0.2.2.1.1.symm
        · rw [if_neg q]
          exact m8.I (by simpa using q)
      · funext i
        rw [rA_sA, rA_sI]
        by_cases q : j = 53
        · subst q
          by_cases q2 : i = 5
          · rw [if_pos ⟨rfl, q2⟩, q2]; rfl
          · rw [if_neg (by rintro ⟨-, k⟩; exact q2 k)]; exact m9 i q2
        · rw [if_neg (by rintro ⟨k, -⟩; exact q k)]
          have hd : ∀ j, j ∈ relA → ¬ j = 53 → j ∉ [53, 57, 58, 61, 62, 63] := by decide
          exact m8.A (hd j hj q) i
    have hrel := hp0.q m7 a6 hM
    have hth : m_I (s_A (s_I f3 59 0) 53 5 (m_A (s_I σ 0 0) 53 5)) 0 = 0 := by rw [rI_sA, rI_sI, if_neg (by decide), m8.I (by decide)]; rfl
    rw [e_al, e_wk (by rw [K_nw, if_neg hav]; exact hp.1.1.1.1), R_nw, if_neg hav, hp.2.1.1, e_nn, e_wk (by rw [K_nw, if_neg hyv]; exact hp.2.1.2.1.1), a1, e_ca, a2, e_ca, m1, e_oa, bp_0, e_i5 (by omega) (by omega), cl_5, ← hwas, m2, e_ob, e_i5 (by omega) (by omega), hwas]
    by_cases hwh : what = 0
    · rw [if_pos hwh, if_pos hwh]
      exact OpT.ok (dc := 3 + dc1 + 1) (ds := 1803 + ds1 + 8) (by rw [e_b0, e_bp, e_bp]) rfl hrel (by omega) (by omega) hth
    · rw [if_neg hwh, if_neg hwh]
      exact OpT.ok (dc := 3 + dc1 + 1) (ds := 1803 + ds1 + 8) (by rw [e_b0, e_bp, e_bp]) rfl hrel (by omega) (by omega) hth
