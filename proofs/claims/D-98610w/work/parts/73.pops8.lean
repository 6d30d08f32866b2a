/-! LAWS: lags, takes, fits (own work) -/
set_option maxRecDepth 100000
theorem op_lags {a o : Nat} {g : GS} {σ : MS} (hr : Rel a o g σ) (what : Int32) : OpT [(1, 1)] a o (X1_lags a what g) (X4_lags what σ) := by
  obtain ⟨ρ, sc, v, n, k, h, y, m, T, hp⟩ := hr
  have hp0 := hp.m (s0_eq (c := 0))
  obtain ⟨-, hs1, hT6⟩ := hp0.1
  unfold X1_lags X4_lags
  cases hw : wi_ what 0 1 with
  | false =>
    refine OpT.ex (e := 1) (q := gz g) (r := 0) (g' := g) (σ' := s_I (s_I σ 0 0) 0 1) (dc := 1) (ds := 6) ?_ ?_ (hp0.r s0_eq) (by omega) (by omega) (List.mem_cons_self)
    · rw [X1_oneOf_f hw, e_tcr, e_b0]
    · rw [X4_isWhat_f s0_0 hw, e_cb, if_pos rfl]
  | true =>
    rw [X1_oneOf_t hw, e_tcl, bp_0, X4_isWhat_t s0_0 hw, e_cb, if_neg nn01]
    obtain ⟨g1, g2, ρ2, dc1, ds1, a1, a2, a3, a4, a5, a6, a7, a8, a9, a10⟩ := newtakec hp0
    obtain ⟨was, hwas⟩ : ∃ was, was = m_A (s_I σ 0 0) 53 1 := ⟨_, rfl⟩
    obtain ⟨e, e', dc, ds, m1, m2, m3, m4, m5, m6, m7, m8⟩ := la2_t (body := fun a1 : Int32 × Int32 × GS => X1_lags_b26 what (gz g) a1.1 a1.2.1 a1.2.2) (body' := fun a : Int32 × Int32 × Int32 × MS => X4_lags_b31 what was a.1 a.2.1 a.2.2.1 a.2.2.2)
      (I := fun j a1 b c d => c = 0 ∧ d = 0 ∧ ∃ t, a1.2.1 = nI t ∧ b.2.2.1 = nI t ∧ t ≤ 25 ∧ j = 25 - t ∧ a1.1 = (if what = 0 then b.1 else b.2.1) ∧ (b.1 = -1 ↔ b.2.1 = -1) ∧ TW a1.2.2 ρ2 a sc v (gz g) (gz g + 1) (gz g1) (gz g1 + 1) (gz g1 + 2) 10 m n k h b.2.2.2 ∧ Fr (fun q => q = v) g a1.2.2 ∧ Mf [] [53, 57, 58, 61, 62, 63] (s_I σ 0 0) b.2.2.2 ∧ ∀ i, i ≠ 1 → m_A b.2.2.2 53 i = m_A (s_I σ 0 0) 53 i)
      (Q := fun e e' c d => c = 0 ∧ d = 0 ∧ e.1 = (if what = 0 then e'.1 else e'.2.1) ∧ Fr (fun q => q = v) g e.2 ∧ Mf [] [53, 57, 58, 61, 62, 63] (s_I σ 0 0) e'.2.2 ∧ ∀ i, i ≠ 1 → m_A e'.2.2 53 i = m_A (s_I σ 0 0) 53 i)
      (by
        rintro j ⟨b, i1, g3⟩ ⟨l1, l2, i2, σ3⟩ c d ⟨c0, d0, t, e1, e2, t1, t2, e3, e4, e5, e6, e7, e8⟩
        simp only at e1 e2 e3 e4 e5 e6 e7 e8 ⊢
        subst c0 d0 e1 e2
        unfold X1_lags_b26 X4_lags_b31
        by_cases ht : t ≤ 24
        · have hlt : ¬ (24 : Int32) < nI t := nI_nlt (b := t) (a := 24) ht (by omega)
          have hti : (nI t).toInt = (t : Int) := i_n (by omega)
          have hT2 := e5.px (f := 1) (f' := 1) (w := nI t) (by omega) (e5.2.2.2.2.2.2.put (by omega))
          obtain ⟨r, g4, σ4, f1, f2, f3, f4, f5, f6, f7, f8, f9⟩ := hT2.rs (T := T) (by rw [(Mf.sA (LI := []) (LA := [53]) (by decide)).Af (by decide), e7.Af (by decide)]; exact hs1) hT6
          have hF4 : Fr (fun q => q = v) g g4 := (e6.trans (Fr.pI (W := fun q => q = gz g + 1) rfl) (fun q hq k => by omega)).trans f6 (fun q hq k => by
            rcases k with k | k | k | k
            · exact k
            · omega
            · omega
            · omega)
          have hM4 : Mf [] [53, 57, 58, 61, 62, 63] (s_I σ 0 0) σ4 := (e7.trans (Mf.sA (LI := []) (LA := [53]) (by decide)) (fun _ k => k) (by decide)).trans f8 (fun _ k => k) (by decide)
          have hrow4 : ∀ i, i ≠ 1 → m_A σ4 53 i = m_A (s_I σ 0 0) 53 i := fun i hi => by rw [f8.A (by decide), rA_sA, if_neg (by rintro ⟨-, k⟩; exact hi k), e8 i hi]
          obtain ⟨w, s1, s2, s3⟩ := hp0.seen hF4 f5 (hM4.Af (by decide)) (hM4.I (by decide))
          have htn : nI t ≠ -1 := by rw [Ne, i_eq, hti, k_n1]; omega
          have hT4 := f5.1
          have step : ∀ (q p1 p2 : Int32), q = (if what = 0 then p1 else p2) → (p1 = -1 ↔ p2 = -1) → ∃ a' b'' dc dk m', m' < j ∧ (some (Sum.inl (q, nI t + 1, g4), 0, 0) : Option (((Int32 × Int32 × GS) ⊕ (Int32 × GS)) × Nat × Nat)) = some (.inl a', dc, dk) ∧ (some (Sum.inl (p1, p2, nI t + 1, σ4)) : Option ((Int32 × Int32 × Int32 × MS) ⊕ (Int32 × Int32 × MS))) = some (.inl b'') ∧ dc + 0 = 0 ∧ dk + 0 = 0 ∧ ∃ t, a'.2.1 = nI t ∧ b''.2.2.1 = nI t ∧ t ≤ 25 ∧ m' = 25 - t ∧ a'.1 = (if what = 0 then b''.1 else b''.2.1) ∧ (b''.1 = -1 ↔ b''.2.1 = -1) ∧ TW a'.2.2 ρ2 a sc v (gz g) (gz g + 1) (gz g1) (gz g1 + 1) (gz g1 + 2) 10 m n k h b''.2.2.2 ∧ Fr (fun q => q = v) g a'.2.2 ∧ Mf [] [53, 57, 58, 61, 62, 63] (s_I σ 0 0) b''.2.2.2 ∧ ∀ i, i ≠ 1 → m_A b''.2.2.2 53 i = m_A (s_I σ 0 0) 53 i :=
            fun q p1 p2 k1 k2 => ⟨_, _, 0, 0, j - 1, by omega, rfl, rfl, rfl, rfl, t + 1, nI_1 t, nI_1 t, by omega, by omega, k1, k2, hT4, hF4, hM4, hrow4⟩
          rw [if_neg hlt, if_neg hlt, e_wk e5.2.1.1.1, e5.2.1.2.1.1, e_nn, e_wk e5.2.2.2.2.1.1, f1, e_cb, e_wk f5.1.2.1.1.1, s1, e_ob, e_i1 (by omega) (by omega), cl_1, f3, e_ob, s2, e_ob]
          unfold X1_lags_j64 X1_lags_j67 X4_lags_j71 X4_lags_j76
          rcases s3 with q | q
          · rw [q, if_pos rfl, if_pos rfl]
            exact Or.inl (step _ _ _ e3 e4)
          · rw [q, if_neg nn01, if_neg nn01]
            by_cases hl : l1 = -1
            · rw [if_pos hl]
              by_cases hwh : what = 0
              · rw [if_pos hwh, if_pos (by rw [e3, if_pos hwh, hl])]
                exact Or.inl (step _ _ _ (by rw [if_pos hwh]) ⟨fun q => absurd q htn, fun q => absurd q htn⟩)
              · rw [if_neg hwh]
                exact Or.inl (step _ _ _ (by rw [if_neg hwh]) ⟨fun q => absurd q htn, fun q => absurd q htn⟩)
            · rw [if_neg hl]
              by_cases hwh : what = 0
              · rw [if_pos hwh, if_neg (by rw [e3, if_pos hwh]; exact hl)]
                exact Or.inl (step _ _ _ (by rw [e3, if_pos hwh, if_pos hwh]) ⟨fun q => absurd q hl, fun q => absurd q htn⟩)
              · rw [if_neg hwh]
                exact Or.inl (step _ _ _ (by rw [if_neg hwh]) ⟨fun q => absurd q hl, fun q => absurd q htn⟩)
        · have hlt : (24 : Int32) < nI t := nI_lt (a := 24) (b := t) (by omega) (by omega)
          rw [if_pos hlt, if_pos hlt]
          exact Or.inr ⟨_, _, 0, 0, rfl, rfl, rfl, rfl, e3, e6, e7, e8⟩)
      fu_ 25 ((-1), 0, g2) ((-1), (-1), 0, s_I σ 0 0) 0 0 ⟨rfl, rfl, 0, rfl, rfl, Nat.zero_le _, rfl, by split <;> rfl, Iff.rfl, a3, a5.mono (fun _ _ k => k.elim), Mf.rf, fun _ _ => rfl⟩ (by unfold fu_; omega)
    obtain ⟨e1, e2⟩ := e
    obtain ⟨f1, f2, f3⟩ := e'
    simp only at m5 m6 m7 m8
    obtain ⟨rfl⟩ : dc = 0 := by omega
    obtain ⟨rfl⟩ : ds = 0 := by omega
    have hav : ¬ a = gz g := by have := hp.1.1.1.2.2.1; omega
    have hyv : ¬ y = gz g := by have := hp.2.1.2.1.2.2.1; omega
    have hrel := hp0.q m6 a6 (meqA (f := 1) m7 m8 (by decide) (by decide))
    have hth : m_I (s_A f3 53 1 (m_A (s_I σ 0 0) 53 1)) 0 = 0 := by rw [rI_sA, m7.I (by decide)]; rfl
    rw [e_al, e_wk (by rw [K_nw, if_neg hav]; exact hp.1.1.1.1), R_nw, if_neg hav, hp.2.1.1, e_nn, e_wk (by rw [K_nw, if_neg hyv]; exact hp.2.1.2.1.1), a1, e_ca, a2, e_ca, m1, e_oa, bp_0, e_i1 (by omega) (by omega), cl_1, ← hwas, m2, e_ob, e_i1 (by omega) (by omega), hwas]
    by_cases hwh : what = 0
    · rw [if_pos hwh] at m5
      rw [if_pos hwh, ← m5]
      exact OpT.ok (dc := 3 + dc1 + 1) (ds := 1803 + ds1 + 8) (by rw [e_b0, e_bp, e_bp]) rfl hrel (by omega) (by omega) hth
    · rw [if_neg hwh] at m5
      rw [if_neg hwh, ← m5]
      exact OpT.ok (dc := 3 + dc1 + 1) (ds := 1803 + ds1 + 8) (by rw [e_b0, e_bp, e_bp]) rfl hrel (by omega) (by omega) hth
/-! takes by a seed -/
theorem TW.pa {g : GS} {ρ : Nat → Nat} {a sc v u x sa ra oa r m n k h i : Nat} {σ σ' : MS} {w : Int32} (hT : TW g ρ a sc v u x sa ra oa r m n k h σ) (hr1 : r ≠ 1) (hM : Mf [73] [] σ σ') : TW (pI g a i w) ρ a sc v u x sa ra oa r m n k h σ' := by
  obtain ⟨hC, hK, ⟨⟨n1, n1'⟩, ⟨n2, n2'⟩, n3, n3'⟩, ⟨hr, hS, ⟨hm, hm6⟩, hR⟩⟩ := hT
  have hF : Fr (fun q => q = a) g (pI g a i w) := Fr.pI rfl
  have ha1 := hC.1.1
  have ha2 := hC.1.2.1
  have hau : ¬ u = a := by intro q; have := hK.1.1; rw [q, ha1] at this; omega
  refine ⟨hC.to hF Ag.rf (fun q _ k k' => by rw [k', ha2] at k; omega) ⟨rfl, rfl⟩ hM (by decide) (by decide), hK.to hF Ag.rf (fun _ => rfl), ⟨⟨by rw [I_pI, if_neg (by rintro ⟨q, -⟩; exact hau q), n1, hM.I (by decide)], by rw [hM.I (by decide)]; exact n1'⟩, ⟨by rw [I_pI, if_neg (by rintro ⟨q, -⟩; exact hau q), n2, hM.I (by decide)], by rw [hM.I (by decide)]; exact n2'⟩, by rw [I_pI, if_neg (by rintro ⟨q, -⟩; exact hau q), n3, hM.I (by decide)], by rw [hM.I (by decide)]; exact n3'⟩, hr, ?_, ⟨by rw [hM.I (by decide)]; exact hm, hm6⟩, ?_⟩
  · rw [hM.Af (by decide)]
    exact hS.to hF Ag.rf (fun q _ k k' => by rw [k', ha2] at k; omega)
  · rw [hM.Af (by decide)]; exact hR
theorem draw_l {d : Nat} (hd : 1 ≤ d) (hd2 : d ≤ 30) (x : Int32) : 0 ≤ ((x &&& 32767) - (x &&& 32767) / nI d * nI d).toInt ∧ ((x &&& 32767) - (x &&& 32767) / nI d * nI d).toInt ≤ 29 := by
  obtain ⟨j, j1, j2⟩ := pk_andE x (m := 32767) 15 (by decide)
  rw [j2]
  have j3 : j < 32768 := j1
  have e1 : nI j / nI d = nI (j / d) := (Int32.ofNat_div (by omega) (by omega)).symm
  have e2 : nI (j / d) * nI d = nI (j / d * d) := (Int32.ofNat_mul _ _).symm
  have h1 : j / d * d ≤ j := Nat.div_mul_le_self j d
  have h2 : j < j / d * d + d := by
    have := Nat.lt_div_mul_add (a := j) (b := d) hd
    omega
  rw [e1, e2, i_sub (by rw [i_n (by omega), i_n (by omega)]; omega) (by rw [i_n (by omega), i_n (by omega)]; omega), i_n (by omega), i_n (by omega)]
  omega
theorem op_takes {a o : Nat} {g : GS} {σ : MS} (hr : Rel a o g σ) (seed many late good what : Int32) : OpT [(1, 1), (2, 2)] a o (X1_takes a seed many late good what g) (X4_takes seed many late good what σ) := by
  obtain ⟨ρ, sc, v, n, k, h, y, m, T, hp⟩ := hr
  have hp0 := hp.m (s0_eq (c := 0))
  obtain ⟨-, hs1, hT6⟩ := hp0.1
  have hC := hp.1.1
  have ha := hC.1.2.2.1
  unfold X1_takes X4_takes
  cases hw : wi_ what 0 2 with
  | false =>
    refine OpT.ex (e := 1) (q := gz g) (r := 0) (g' := g) (σ' := s_I (s_I σ 0 0) 0 1) (dc := 1) (ds := 6) ?_ ?_ (hp0.r s0_eq) (by omega) (by omega) (List.mem_cons_self)
    · rw [X1_oneOf_f hw, e_tcr, e_b0]
    · rw [X4_isWhat_f s0_0 hw, e_cb, if_pos rfl]
  | true =>
    rw [X1_oneOf_t hw, e_tcl, bp_0, X4_isWhat_t s0_0 hw, e_cb, if_neg nn01]
    have hbad : OpT [(1, 1), (2, 2)] a o (X1_takes_j42 a seed many late good what g) (X4_takes_j52 seed many late good what (s_I σ 0 0)) := by
      unfold X1_takes_j42 X4_takes_j52 X1_takes_j43 X4_takes_j53
      refine OpT.ex (e := 2) (q := gz g) (r := 0) (g' := g) (σ' := s_I (s_I σ 0 0) 0 2) (dc := 1) (ds := 6) ?_ ?_ (hp0.r s0_eq) (by omega) (by omega) (List.mem_cons_of_mem _ List.mem_cons_self)
      · rw [X1_right_f, e_tcr, e_b0]
      · rw [X4_right0 s0_0 (by decide), e_cb, if_pos rfl]
    rw [X1_in_l, X4_within_l, e_ob, e_ob]
    cases hw2 : wi_ many 0 40 with
    | false => exact hbad
    | true =>
      rw [if_pos rfl, if_neg nn01, if_neg nn01, X1_in_l, X4_within_l, e_ob, e_ob]
      cases hw3 : wi_ late 1 30 with
      | false => exact hbad
      | true =>
        rw [if_pos rfl, if_neg nn01, if_neg nn01, X1_in_l, X4_within_l, e_ob, e_ob]
        cases hw4 : wi_ good 0 601 with
        | false => exact hbad
        | true =>
          rw [if_pos rfl, if_neg nn01, if_neg nn01]
          obtain ⟨u1, u2⟩ := wi_t.mp hw2
          rw [k_0] at u1
          have u2 : many.toInt ≤ 40 := u2
          obtain ⟨mn, rfl, mn2, -⟩ := i_nat u1
          obtain ⟨u3, u4⟩ := wi_t.mp hw3
          rw [k_1] at u3
          have u4 : late.toInt ≤ 30 := u4
          obtain ⟨dl, rfl, dl2, -⟩ := i_nat (x := late) (by omega)
          -- the state with its seed
          have hpS : RelP a o sc v n k h y m T (pI g a 15 seed) ρ (s_I (s_I σ 0 0) 73 seed) := hp0.to (W := fun q => q = a) (Fr.pI rfl) Ag.rf (fun q _ k => Or.inl k) (fun _ => rfl) (fun i hi => by rw [I_pI, if_neg (by rintro ⟨-, q⟩; exact hi q)]) ((Mf.sI (LI := [73]) (LA := []) (by decide)).eq (by decide) (by decide))
          obtain ⟨g1, b1, b2, b3, b4⟩ := newtake hpS
          have hFr0 : Fr (fun q => q = v ∨ q = a) g g1 := (Fr.pI (W := fun q => q = v ∨ q = a) (Or.inr rfl)).trans b3 (fun _ _ k => k.elim)
          have hva : ¬ a = v := by
            intro q
            have q1 := hp.1.1.1.1
            rw [q, hp.1.1.2.1.1] at q1
            omega
          have hz1 : gz (pI g a 15 seed) = gz g := rfl
          rw [hz1] at b1 b2 b4
          obtain ⟨e, e', dc, ds, m1, m2, m3, m4, m5, m6, m7, m8, m9, m10, m11⟩ := la2_t (body := fun a1 : Int32 × Int32 × Int32 × Int32 × GS => X1_takes_b77 a (nI mn) (nI dl) good what (gz g) a1.1 a1.2.1 a1.2.2.1 a1.2.2.2.1 a1.2.2.2.2) (body' := fun a : Int32 × Int32 × Int32 × Int32 × MS => X4_takes_b79 (nI mn) (nI dl) good what a.1 a.2.1 a.2.2.1 a.2.2.2.1 a.2.2.2.2)
            (I := fun j a1 b c d => c = 0 ∧ d = 0 ∧ ∃ t, a1.2.2.2.1 = nI t ∧ b.2.2.2.1 = nI t ∧ t ≤ mn ∧ j = mn - t ∧ a1.1 = b.1 ∧ a1.2.1 = b.2.1 ∧ a1.2.2.1 = b.2.2.1 ∧ TW a1.2.2.2.2 (nr ρ (pI g a 15 seed) 9) a sc v (gz g) y (gz g + 1) (gz g + 2) (gz g + 3) 2 m n k h b.2.2.2.2 ∧ Fr (fun q => q = v ∨ q = a) g a1.2.2.2.2 ∧ ((∀ i, gR a1.2.2.2.2 a i = gR g a i) ∧ (∀ i, i ≠ 15 → gI a1.2.2.2.2 a i = gI g a i) ∧ gI a1.2.2.2.2 a 15 = m_I b.2.2.2.2 73) ∧ Mf [59, 73] [57, 58, 61, 62, 63] (s_I σ 0 0) b.2.2.2.2)
            (Q := fun e e' c d => c = 0 ∧ d = 0 ∧ e.1 = e'.1 ∧ e.2.1 = e'.2.1 ∧ e.2.2.1 = e'.2.2.1 ∧ Fr (fun q => q = v ∨ q = a) g e.2.2.2 ∧ (∀ i, gR e.2.2.2 a i = gR g a i) ∧ (∀ i, i ≠ 15 → gI e.2.2.2 a i = gI g a i) ∧ Mf [59, 73] [57, 58, 61, 62, 63] (s_I σ 0 0) e'.2.2.2)
            (by
              rintro j ⟨q1, q2, q3, i1, g2⟩ ⟨p1, p2, p3, i2, σ2⟩ c d ⟨c0, d0, t, e1, e2, t1, t2, e3, e4, e5, e6, e7, ⟨e8, e8', e8''⟩, e9⟩
              simp only at e1 e2 e3 e4 e5 e6 e7 e8 e8' e8'' e9 ⊢
              subst c0 d0 e1 e2 e3 e4 e5
              unfold X1_takes_b77 X4_takes_b79
              by_cases ht : t < mn
              · have hlt : ¬ nI mn ≤ nI t := nI_ge ht (by omega)
                obtain ⟨sd, hsd⟩ : ∃ sd, sd = m_I σ2 73 * 1103515245 + 12345 := ⟨_, rfl⟩
                obtain ⟨dr, hdr⟩ : ∃ dr, dr = ((sd >>> ((16 : Int32) &&& 31)) &&& 32767) - ((sd >>> ((16 : Int32) &&& 31)) &&& 32767) / nI dl * nI dl := ⟨_, rfl⟩
                have hdrr := draw_l (d := dl) (by omega) (by omega) (sd >>> ((16 : Int32) &&& 31))
                rw [← hdr] at hdrr
                have hdl0 : ¬ nI dl = 0 := nI_ne0 (by omega) (by omega)
                have ha2 : gK g2 a = 1 := e6.1.1.1
                have hdX : X1_draw a (nI dl) g2 = some (dr, pI g2 a 15 sd) := by
                  unfold X1_draw
                  rw [e_wk ha2, e_dv hdl0, e8'', ← hsd, I_pI, if_pos ⟨rfl, rfl⟩, ← hdr]
                have hdM : X4_draw (nI dl) σ2 = some (dr, s_I σ2 73 sd) := by
                  unfold X4_draw
                  rw [e_dv hdl0, ← hsd, ← hdr]
                have hT3 := (e6.pa (i := 15) (w := sd) (σ' := s_I σ2 73 sd) (by omega) (Mf.sI (by decide)))
                have hT4 := hT3.pu (f := 4) (w := dr) (hT3.2.2.1.at4 (by omega)) ((Mf.sI (LI := [59, 60, 64]) (LA := []) (by decide)))
                obtain ⟨r, g4, σ4, f1, f2, f3, f4, f5, f6, f7, f8, f9⟩ := hT4.rs (T := T) (by rw [(Mf.sI (LI := [59]) (LA := []) (by decide)).Af (by decide), (Mf.sI (LI := [73]) (LA := []) (by decide)).Af (by decide), e9.Af (by decide)]; exact hs1) hT6
                have hu2 := e6.2.1.1.1
                have hau : ¬ a = gz g := by omega
                have hF3 : Fr (fun q => q = v ∨ q = a) g (pI (pI g2 a 15 sd) (gz g) 4 dr) := (e7.trans (Fr.pI (W := fun q => q = a) rfl) (fun q hq k => Or.inr k)).trans (Fr.pI (W := fun q => q = gz g) rfl) (fun q hq k => by omega)
                have hF4 : Fr (fun q => q = v ∨ q = a) g g4 := hF3.trans f6 (fun q hq k => by
                  rcases k with k | k | k | k
                  · exact Or.inl k
                  · omega
                  · omega
                  · omega)
                have hanw : ¬ tw_ v (gz g + 1) (gz g + 2) (gz g + 3) a := by
                  rintro (k | k | k | k)
                  · exact hva k
                  · omega
                  · omega
                  · omega
                have ha3 : a < gz (pI (pI g2 a 15 sd) (gz g) 4 dr) := e6.1.1.2.2.1
                have hR4 : ∀ i, gR g4 a i = gR g a i := fun i => by rw [f6.R ha3 hanw, R_pI, R_pI, e8 i]
                have hI4 : ∀ i, i ≠ 15 → gI g4 a i = gI g a i := fun i hi => by rw [f6.I ha3 hanw, I_pI, if_neg (by rintro ⟨q, -⟩; exact hau q), I_pI, if_neg (by rintro ⟨-, q⟩; exact hi q), e8' i hi]
                have hS4 : gI g4 a 15 = m_I σ4 73 := by
                  rw [f6.I ha3 hanw, I_pI, if_neg (by rintro ⟨q, -⟩; exact hau q), I_pI, if_pos ⟨rfl, rfl⟩, f8.I (by decide), rI_sI, if_neg (by decide), rI_sI, if_pos rfl]
                have hM4 : Mf [59, 73] [57, 58, 61, 62, 63] (s_I σ 0 0) σ4 := ((e9.trans (Mf.sI (LI := [73]) (LA := []) (by decide)) (by decide) (by decide)).trans (Mf.sI (LI := [59]) (LA := []) (by decide)) (by decide) (by decide)).trans f8 (by decide) (fun _ k => k)
                rw [if_neg hlt, if_neg hlt, e_wk ha2, hdX, e_cb, e_wk (by exact hu2), f1, e_cb, e_wk f5.1.2.1.1.1, f2, e_ob, hdM, e_cb, f4, e_cb]
                have key : ∀ w1 w2 w3 : Int32, ∃ a' b'' dc dk m', m' < j ∧ (some (Sum.inl (w1, w2, w3, nI t + 1, g4), 0, 0) : Option (((Int32 × Int32 × Int32 × Int32 × GS) ⊕ (Int32 × Int32 × Int32 × GS)) × Nat × Nat)) = some (.inl a', dc, dk) ∧ (some (Sum.inl (w1, w2, w3, nI t + 1, σ4)) : Option ((Int32 × Int32 × Int32 × Int32 × MS) ⊕ (Int32 × Int32 × Int32 × MS))) = some (.inl b'') ∧ dc + 0 = 0 ∧ dk + 0 = 0 ∧ ∃ t, a'.2.2.2.1 = nI t ∧ b''.2.2.2.1 = nI t ∧ t ≤ mn ∧ m' = mn - t ∧ a'.1 = b''.1 ∧ a'.2.1 = b''.2.1 ∧ a'.2.2.1 = b''.2.2.1 ∧ TW a'.2.2.2.2 (nr ρ (pI g a 15 seed) 9) a sc v (gz g) y (gz g + 1) (gz g + 2) (gz g + 3) 2 m n k h b''.2.2.2.2 ∧ Fr (fun q => q = v ∨ q = a) g a'.2.2.2.2 ∧ ((∀ i, gR a'.2.2.2.2 a i = gR g a i) ∧ (∀ i, i ≠ 15 → gI a'.2.2.2.2 a i = gI g a i) ∧ gI a'.2.2.2.2 a 15 = m_I b''.2.2.2.2 73) ∧ Mf [59, 73] [57, 58, 61, 62, 63] (s_I σ 0 0) b''.2.2.2.2 :=
                  fun w1 w2 w3 => ⟨_, _, 0, 0, j - 1, by omega, rfl, rfl, rfl, rfl, t + 1, nI_1 t, nI_1 t, by omega, by omega, rfl, rfl, rfl, f5.1, hF4, ⟨hR4, hI4, hS4⟩, hM4⟩
                unfold X1_takes_j113 X4_takes_j114 X1_takes_j137 X4_takes_j136 X4_takes_j143 jmin_
                by_cases hg : r < good
                · rw [if_pos hg, if_pos hg, Int32.add_zero]
                  by_cases h0 : nI t = 0
                  · rw [if_pos h0, if_pos h0]; exact Or.inl (key _ _ _)
                  · rw [if_neg h0, if_neg h0]
                    by_cases h1 : q3 ≤ r
                    · rw [if_pos h1, if_neg (by rw [nlt_le]; exact h1)]; exact Or.inl (key _ _ _)
                    · rw [if_neg h1, if_pos (nle_lt.mp h1)]; exact Or.inl (key _ _ _)
                · rw [if_neg hg, if_neg hg]
                  by_cases h0 : nI t = 0
                  · rw [if_pos h0, if_pos h0]; exact Or.inl (key _ _ _)
                  · rw [if_neg h0, if_neg h0]
                    by_cases h1 : q3 ≤ r
                    · rw [if_pos h1, if_neg (by rw [nlt_le]; exact h1)]; exact Or.inl (key _ _ _)
                    · rw [if_neg h1, if_pos (nle_lt.mp h1)]; exact Or.inl (key _ _ _)
              · have hlt : nI mn ≤ nI t := nI_le (by omega) (by omega)
                rw [if_pos hlt, if_pos hlt]
                exact Or.inr ⟨_, _, 0, 0, rfl, rfl, rfl, rfl, rfl, rfl, rfl, e7, e8, e8', e9⟩)
            fu_ mn (0, 0, 0, 0, g1) (0, 0, 0, 0, s_I (s_I σ 0 0) 73 seed) 0 0 ⟨rfl, rfl, 0, rfl, rfl, Nat.zero_le _, rfl, rfl, rfl, rfl, b2, hFr0, ⟨fun i => by show gR g1 a i = _; rw [b3.R (show a < gz (pI g a 15 seed) from ha) (fun k => k)]; rfl, fun i hi => by show gI g1 a i = _; rw [b3.I (show a < gz (pI g a 15 seed) from ha) (fun k => k), I_pI, if_neg (by rintro ⟨-, q⟩; exact hi q)], by show gI g1 a 15 = _; rw [b3.I (show a < gz (pI g a 15 seed) from ha) (fun k => k), I_pI, if_pos ⟨rfl, rfl⟩]; show seed = m_I (s_I (s_I σ 0 0) 73 seed) 73; rw [rI_sI, if_pos rfl]⟩, Mf.sI (by decide)⟩ (by unfold fu_; omega)
          obtain ⟨e1, e2, e3, e4⟩ := e
          obtain ⟨f1, f2, f3, f4⟩ := e'
          simp only at m5 m6 m7 m8 m9 m10 m11
          obtain ⟨rfl⟩ : dc = 0 := by omega
          obtain ⟨rfl⟩ : ds = 0 := by omega
          subst m5 m6 m7
          have hav : ¬ a = gz g := by omega
          have hrel : Rel a o e4 (s_I f4 59 0) := ⟨nr ρ g 9, sc, v, n, k, h, y, m, T, hp0.to m8 nr_ag (fun q _ k => k.elim (fun k => by rw [k]; exact Or.inr (Or.inl hp.1.1.2.1.2.2.1)) (fun k => Or.inl k)) m9 m10 (meqI (c := 59) hp0.2.2.1.1 m11 (by decide) (by decide))⟩
          have hth : m_I (s_I f4 59 0) 0 = 0 := by rw [rI_sI, if_neg (by decide), m11.I (by decide)]; rfl
          unfold X1_takes_j43 X4_takes_j53
          rw [X1_right_t, e_tcl, bp_0, e_wk hp.1.1.1.1, e_al, e_wk (by rw [K_nw, if_neg (by exact hav)]; exact hp.1.1.1.1), R_nw, if_neg (by exact hav), R_pI, hp.2.1.1, e_nn, hz1, b1, e_ca, m1, e_oa, bp_0, X4_right1 s0_0, e_cb, if_neg nn01, m2, e_ob]
          by_cases hwh : what = 0
          · rw [if_pos hwh, if_pos hwh]
            exact OpT.ok (dc := 4) (ds := 1811) rfl rfl hrel (by omega) (by omega) hth
          · rw [if_neg hwh, if_neg hwh]
            by_cases hwh1 : what = 1
            · rw [if_pos hwh1, if_pos hwh1]
              exact OpT.ok (dc := 4) (ds := 1811) rfl rfl hrel (by omega) (by omega) hth
            · rw [if_neg hwh1, if_neg hwh1]
              exact OpT.ok (dc := 4) (ds := 1811) rfl rfl hrel (by omega) (by omega) hth
