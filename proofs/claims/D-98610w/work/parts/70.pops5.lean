/-! LAWS: foretell, shift (own work; printed by gen) -/
set_option maxRecDepth 100000
theorem op_foretell {a o : Nat} {g : GS} {σ : MS} (hr : Rel a o g σ) (what : Int32) : OpT [(1, 1)] a o (X1_foretell a what g) (X4_foretell what σ) := by
  obtain ⟨ρ, sc, v, n, k, h, y, m, T, hp⟩ := hr
  have hp0 := hp.m (s0_eq (c := 0))
  unfold X1_foretell X4_foretell
  cases hw : wi_ what 0 1 with
  | false =>
    refine OpT.ex (e := 1) (q := gz g) (r := 0) (g' := g) (σ' := s_I (s_I σ 0 0) 0 1) (dc := 1) (ds := 6) ?_ ?_ (hp0.r s0_eq) (by omega) (by omega) (List.mem_cons_self)
    · rw [X1_oneOf_f hw, e_tcr, e_b0]
    · rw [X4_isWhat_f s0_0 hw, e_cb, if_pos rfl]
  | true =>
    rw [X1_oneOf_t hw, e_tcl, bp_0, X4_isWhat_t s0_0 hw, e_cb, if_neg nn01]
    obtain ⟨g1, b1, b2, b3, b4⟩ := newtake hp0
    obtain ⟨-, hs1, hT6⟩ := hp0.1
    obtain ⟨e, e', dc, ds, m1, m2, m3, m4, m5, m6, m7, m8⟩ := la2_t (body := fun a1 : Int32 × Int32 × Int32 × GS => X1_foretell_b26 what (gz g) a1.1 a1.2.1 a1.2.2.1 a1.2.2.2) (body' := fun a : Int32 × Int32 × Int32 × MS => X4_foretell_b23 what a.1 a.2.1 a.2.2.1 a.2.2.2)
      (I := fun j a1 b c d => c = 0 ∧ d = 0 ∧ ∃ t, a1.2.2.1 = nI t ∧ b.2.2.1 = nI t ∧ t ≤ 49 ∧ j = 49 - t ∧ a1.1 = b.1 ∧ a1.2.1 = b.2.1 ∧ TW a1.2.2.2 (nr ρ g 9) a sc v (gz g) y (gz g + 1) (gz g + 2) (gz g + 3) 2 m n k h b.2.2.2 ∧ Fr (fun q => q = v) g a1.2.2.2 ∧ Mf [64] [57, 58, 61, 62, 63] (s_I σ 0 0) b.2.2.2)
      (Q := fun e e' c d => c = 0 ∧ d = 0 ∧ e.1 = e'.1 ∧ e.2.1 = e'.2.1 ∧ Fr (fun q => q = v) g e.2.2 ∧ Mf [64] [57, 58, 61, 62, 63] (s_I σ 0 0) e'.2.2)
      (by
        rintro j ⟨b, bm, i1, g2⟩ ⟨c1, c2, i2, σ2⟩ c d ⟨c0, d0, t, e1, e2, t1, t2, e3, e4, e5, e6, e7⟩
        simp only at e1 e2 e3 e4 e5 e6 e7 ⊢
        subst c0 d0 e1 e2 e3 e4
        unfold X1_foretell_b26 X4_foretell_b23
        by_cases ht : t ≤ 48
        · have hlt : ¬ (48 : Int32) < nI t := nI_nlt (b := t) (a := 48) ht (by omega)
          have key : ∀ w : Int32, -24 ≤ w.toInt ∧ w.toInt ≤ 24 → ∃ a' b'' dc dk m', m' < j ∧ X1_foretell_j55 what (gz g) b bm (nI t) (gz g) w g2 = some (.inl a', dc, dk) ∧ X4_foretell_j54 what b bm (nI t) w σ2 = some (.inl b'') ∧ dc + 0 = 0 ∧ dk + 0 = 0 ∧ ∃ t, a'.2.2.1 = nI t ∧ b''.2.2.1 = nI t ∧ t ≤ 49 ∧ m' = 49 - t ∧ a'.1 = b''.1 ∧ a'.2.1 = b''.2.1 ∧ TW a'.2.2.2 (nr ρ g 9) a sc v (gz g) y (gz g + 1) (gz g + 2) (gz g + 3) 2 m n k h b''.2.2.2 ∧ Fr (fun q => q = v) g a'.2.2.2 ∧ Mf [64] [57, 58, 61, 62, 63] (s_I σ 0 0) b''.2.2.2 := by
            intro w hwr
            have hT3 := e5.pu (f := 5) (w := w) (e5.2.2.1.at5 hwr) ((Mf.sI (LI := [59, 60, 64]) (LA := []) (by decide)))
            obtain ⟨r, g4, σ4, f1, f2, f3, f4, f5, f6, f7, f8, f9⟩ := hT3.rs (T := T) (by rw [(Mf.sI (LI := [64]) (LA := []) (by decide)).Af (by decide), e7.Af (by decide)]; exact hs1) hT6
            have hu := e5.2.1.1.1
            have hN4 := f5.1.2.2.1
            have hM4 : Mf [64] [57, 58, 61, 62, 63] (s_I σ 0 0) σ4 := (e7.trans (Mf.sI (LI := [64]) (LA := []) (by decide)) (fun _ k => k) (by decide)).trans f8 (by decide) (fun _ k => k)
            have hF4 : Fr (fun q => q = v) g g4 := (e6.trans (Fr.pI (W := fun q => q = gz g) rfl) (fun q hq k => by omega)).trans f6 (fun q hq k => by
              rcases k with k | k | k | k
              · exact k
              · omega
              · omega
              · omega)
            have hv5 : gI g4 (gz g) 5 = m_I σ4 64 := hN4.2.1.1
            unfold X1_foretell_j55 X4_foretell_j54 X1_foretell_j86 X4_foretell_j80
            rw [e_wk hu, e_wk (by exact hu), f1, e_cb, e_wk f5.1.2.1.1.1, f2, e_ob, f4, e_cb, nI_1]
            by_cases q : bm < r
            · rw [if_pos q, if_pos q, e_wk f5.1.2.1.1.1, hv5]
              exact ⟨_, _, 0, 0, j - 1, by omega, rfl, rfl, rfl, rfl, t + 1, rfl, rfl, by omega, by omega, rfl, rfl, f5.1, hF4, hM4⟩
            · rw [if_neg q, if_neg q]
              exact ⟨_, _, 0, 0, j - 1, by omega, rfl, rfl, rfl, rfl, t + 1, rfl, rfl, by omega, by omega, rfl, rfl, f5.1, hF4, hM4⟩
          rw [if_neg hlt, if_neg hlt, e_dv (by decide), e_dv (by decide), e_dv (by decide), e_dv (by decide)]
          rcases par_l ⟨t, by omega⟩ with ⟨q1, q2, q3⟩ | ⟨q1, q2, q3, q4⟩
          · rw [if_pos q1, if_neg q2]
            exact Or.inl (key _ q3)
          · rw [if_neg q1, if_pos q2, q3]
            exact Or.inl (key _ q4)
        · have hlt : (48 : Int32) < nI t := nI_lt (a := 48) (b := t) (by omega) (by omega)
          rw [if_pos hlt, if_pos hlt]
          exact Or.inr ⟨_, _, 0, 0, rfl, rfl, rfl, rfl, rfl, rfl, e6, e7⟩)
      fu_ 49 (0, (-1), 0, g1) (0, (-1), 0, s_I σ 0 0) 0 0 ⟨rfl, rfl, 0, rfl, rfl, Nat.zero_le _, rfl, rfl, rfl, b2, b3.mono (fun _ _ k => k.elim), Mf.rf⟩ (by unfold fu_; omega)
    obtain ⟨e1, e2, e3⟩ := e
    obtain ⟨f1, f2, f3⟩ := e'
    simp only at m5 m6 m7 m8
    obtain ⟨rfl⟩ : dc = 0 := by omega
    obtain ⟨rfl⟩ : ds = 0 := by omega
    subst m5 m6
    have hav : ¬ a = gz g := by have := hp.1.1.1.2.2.1; omega
    have hrel := hp0.q m7 (nr_ag (r := 9)) (meqI (c := 64) hp0.2.2.1.2.2 m8 (by decide) (by decide))
    have hth : m_I (s_I f3 64 0) 0 = 0 := by rw [rI_sI, if_neg (by decide), m8.I (by decide)]; rfl
    rw [e_al, e_wk (by rw [K_nw, if_neg hav]; exact hp.1.1.1.1), R_nw, if_neg hav, hp.2.1.1, e_nn, b1, e_ca, m1, e_oa, bp_0, m2, e_ob]
    by_cases hwh : what = 0
    · rw [if_pos hwh, if_pos hwh]
      exact OpT.ok (dc := 4) (ds := 1811) rfl rfl hrel (by omega) (by omega) hth
    · rw [if_neg hwh, if_neg hwh]
      exact OpT.ok (dc := 4) (ds := 1811) rfl rfl hrel (by omega) (by omega) hth
theorem op_shift {a o : Nat} {g : GS} {σ : MS} (hr : Rel a o g σ) (what : Int32) : OpT [(1, 1)] a o (X1_shift a what g) (X4_shift what σ) := by
  obtain ⟨ρ, sc, v, n, k, h, y, m, T, hp⟩ := hr
  have hp0 := hp.m (s0_eq (c := 0))
  unfold X1_shift X4_shift
  cases hw : wi_ what 0 1 with
  | false =>
    refine OpT.ex (e := 1) (q := gz g) (r := 0) (g' := g) (σ' := s_I (s_I σ 0 0) 0 1) (dc := 1) (ds := 6) ?_ ?_ (hp0.r s0_eq) (by omega) (by omega) (List.mem_cons_self)
    · rw [X1_oneOf_f hw, e_tcr, e_b0]
    · rw [X4_isWhat_f s0_0 hw, e_cb, if_pos rfl]
  | true =>
    rw [X1_oneOf_t hw, e_tcl, bp_0, X4_isWhat_t s0_0 hw, e_cb, if_neg nn01]
    obtain ⟨g1, b1, b2, b3, b4⟩ := newtake hp0
    obtain ⟨-, hs1, hT6⟩ := hp0.1
    obtain ⟨e, e', dc, ds, m1, m2, m3, m4, m5, m6, m7, m8⟩ := la2_t (body := fun a1 : Int32 × Int32 × Int32 × GS => X1_shift_b26 what (gz g) a1.1 a1.2.1 a1.2.2.1 a1.2.2.2) (body' := fun a : Int32 × Int32 × Int32 × MS => X4_shift_b23 what a.1 a.2.1 a.2.2.1 a.2.2.2)
      (I := fun j a1 b c d => c = 0 ∧ d = 0 ∧ ∃ t, a1.2.2.1 = nI t ∧ b.2.2.1 = nI t ∧ t ≤ 49 ∧ j = 49 - t ∧ a1.1 = b.1 ∧ a1.2.1 = b.2.1 ∧ TW a1.2.2.2 (nr ρ g 9) a sc v (gz g) y (gz g + 1) (gz g + 2) (gz g + 3) 2 m n k h b.2.2.2 ∧ Fr (fun q => q = v) g a1.2.2.2 ∧ Mf [60] [57, 58, 61, 62, 63] (s_I σ 0 0) b.2.2.2)
      (Q := fun e e' c d => c = 0 ∧ d = 0 ∧ e.1 = e'.1 ∧ e.2.1 = e'.2.1 ∧ Fr (fun q => q = v) g e.2.2 ∧ Mf [60] [57, 58, 61, 62, 63] (s_I σ 0 0) e'.2.2)
      (by
        rintro j ⟨b, bm, i1, g2⟩ ⟨c1, c2, i2, σ2⟩ c d ⟨c0, d0, t, e1, e2, t1, t2, e3, e4, e5, e6, e7⟩
        simp only at e1 e2 e3 e4 e5 e6 e7 ⊢
        subst c0 d0 e1 e2 e3 e4
        unfold X1_shift_b26 X4_shift_b23
        by_cases ht : t ≤ 48
        · have hlt : ¬ (48 : Int32) < nI t := nI_nlt (b := t) (a := 48) ht (by omega)
          have key : ∀ w : Int32, -24 ≤ w.toInt ∧ w.toInt ≤ 24 → ∃ a' b'' dc dk m', m' < j ∧ X1_shift_j55 what (gz g) b bm (nI t) (gz g) w g2 = some (.inl a', dc, dk) ∧ X4_shift_j54 what b bm (nI t) w σ2 = some (.inl b'') ∧ dc + 0 = 0 ∧ dk + 0 = 0 ∧ ∃ t, a'.2.2.1 = nI t ∧ b''.2.2.1 = nI t ∧ t ≤ 49 ∧ m' = 49 - t ∧ a'.1 = b''.1 ∧ a'.2.1 = b''.2.1 ∧ TW a'.2.2.2 (nr ρ g 9) a sc v (gz g) y (gz g + 1) (gz g + 2) (gz g + 3) 2 m n k h b''.2.2.2 ∧ Fr (fun q => q = v) g a'.2.2.2 ∧ Mf [60] [57, 58, 61, 62, 63] (s_I σ 0 0) b''.2.2.2 := by
            intro w hwr
            have hT3 := e5.pu (f := 6) (w := w) (e5.2.2.1.at6 hwr) ((Mf.sI (LI := [59, 60, 64]) (LA := []) (by decide)))
            obtain ⟨r, g4, σ4, f1, f2, f3, f4, f5, f6, f7, f8, f9⟩ := hT3.rs (T := T) (by rw [(Mf.sI (LI := [60]) (LA := []) (by decide)).Af (by decide), e7.Af (by decide)]; exact hs1) hT6
            have hu := e5.2.1.1.1
            have hN4 := f5.1.2.2.1
            have hM4 : Mf [60] [57, 58, 61, 62, 63] (s_I σ 0 0) σ4 := (e7.trans (Mf.sI (LI := [60]) (LA := []) (by decide)) (fun _ k => k) (by decide)).trans f8 (by decide) (fun _ k => k)
            have hF4 : Fr (fun q => q = v) g g4 := (e6.trans (Fr.pI (W := fun q => q = gz g) rfl) (fun q hq k => by omega)).trans f6 (fun q hq k => by
              rcases k with k | k | k | k
              · exact k
              · omega
              · omega
              · omega)
            have hv5 : gI g4 (gz g) 6 = m_I σ4 60 := hN4.2.2.1
            unfold X1_shift_j55 X4_shift_j54 X1_shift_j86 X4_shift_j80
            rw [e_wk hu, e_wk (by exact hu), f1, e_cb, e_wk f5.1.2.1.1.1, f2, e_ob, f4, e_cb, nI_1]
            by_cases q : bm < r
            · rw [if_pos q, if_pos q, e_wk f5.1.2.1.1.1, hv5]
              exact ⟨_, _, 0, 0, j - 1, by omega, rfl, rfl, rfl, rfl, t + 1, rfl, rfl, by omega, by omega, rfl, rfl, f5.1, hF4, hM4⟩
            · rw [if_neg q, if_neg q]
              exact ⟨_, _, 0, 0, j - 1, by omega, rfl, rfl, rfl, rfl, t + 1, rfl, rfl, by omega, by omega, rfl, rfl, f5.1, hF4, hM4⟩
          rw [if_neg hlt, if_neg hlt, e_dv (by decide), e_dv (by decide), e_dv (by decide), e_dv (by decide)]
          rcases par_l ⟨t, by omega⟩ with ⟨q1, q2, q3⟩ | ⟨q1, q2, q3, q4⟩
          · rw [if_pos q1, if_neg q2]
            exact Or.inl (key _ q3)
          · rw [if_neg q1, if_pos q2, q3]
            exact Or.inl (key _ q4)
        · have hlt : (48 : Int32) < nI t := nI_lt (a := 48) (b := t) (by omega) (by omega)
          rw [if_pos hlt, if_pos hlt]
          exact Or.inr ⟨_, _, 0, 0, rfl, rfl, rfl, rfl, rfl, rfl, e6, e7⟩)
      fu_ 49 (0, (-1), 0, g1) (0, (-1), 0, s_I σ 0 0) 0 0 ⟨rfl, rfl, 0, rfl, rfl, Nat.zero_le _, rfl, rfl, rfl, b2, b3.mono (fun _ _ k => k.elim), Mf.rf⟩ (by unfold fu_; omega)
    obtain ⟨e1, e2, e3⟩ := e
    obtain ⟨f1, f2, f3⟩ := e'
    simp only at m5 m6 m7 m8
    obtain ⟨rfl⟩ : dc = 0 := by omega
    obtain ⟨rfl⟩ : ds = 0 := by omega
    subst m5 m6
    have hav : ¬ a = gz g := by have := hp.1.1.1.2.2.1; omega
    have hrel := hp0.q m7 (nr_ag (r := 9)) (meqI (c := 60) hp0.2.2.1.2.1 m8 (by decide) (by decide))
    have hth : m_I (s_I f3 60 0) 0 = 0 := by rw [rI_sI, if_neg (by decide), m8.I (by decide)]; rfl
    rw [e_al, e_wk (by rw [K_nw, if_neg hav]; exact hp.1.1.1.1), R_nw, if_neg hav, hp.2.1.1, e_nn, b1, e_ca, m1, e_oa, bp_0, m2, e_ob]
    by_cases hwh : what = 0
    · rw [if_pos hwh, if_pos hwh]
      exact OpT.ok (dc := 4) (ds := 1811) rfl rfl hrel (by omega) (by omega) hth
    · rw [if_neg hwh, if_neg hwh]
      exact OpT.ok (dc := 4) (ds := 1811) rfl rfl hrel (by omega) (by omega) hth
