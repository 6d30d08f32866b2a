/-! LAWS: both, quickest, light (own work) -/
set_option maxRecDepth 100000
/-- a turn between two states of a take that only looks -/
theorem TW.turn {g : GS} {ρ : Nat → Nat} {a sc v u x sa ra oa r m n k h : Nat} {σ : MS} (hT : TW g ρ a sc v u x sa ra oa r m n k h σ) {z : Int32} (hz : 12 ≤ z.toInt ∧ z.toInt ≤ 480) :
    ∃ w g' σ', X1_turnOf a z g = some (w, g') ∧ X4_turnOf z σ = some (w, σ') ∧ TW g' ρ a sc v u x sa ra oa r m n k h σ' ∧ Fr (fun q => q = v) g g' ∧ gz g' = gz g ∧ Mf [] [57, 58] σ σ' ∧ 0 ≤ w.toInt ∧ w.toInt ≤ 999 := by
  obtain ⟨w, g', σ', b1, b2, b3, b4, b5, b6⟩ := turn_l hT.1 hz
  exact ⟨w, g', σ', b1, b2, hT.to (b3.mono (fun _ _ k => Or.inl k)) (b5.mono (fun _ k => k) (by decide)), b3, b4, b5, b6⟩
/-- inches, on both sides -/
theorem TW.inch {g : GS} {ρ : Nat → Nat} {a sc v u x sa ra oa r m n k h : Nat} {σ : MS} (hT : TW g ρ a sc v u x sa ra oa r m n k h σ) {t : Nat} (ht : t ≤ 600) (who : Int32) :
    ∃ z, X11_inches u (nI t) who g = some z ∧ X4_inchesOf (nI t) who σ = some z ∧ 12 ≤ z.toInt ∧ z.toInt ≤ 480 := by
  obtain ⟨⟨⟨A1, A2, A3, A4, A5⟩, -, -, ⟨S1, S2, S3, S4, S5⟩, ⟨⟨P1, P2⟩, -⟩, ⟨Q1, -, -⟩, -, w1, -, w3, -⟩, ⟨⟨U1, -, -⟩, ⟨F0, -, -, -, F7⟩, -, -⟩, ⟨⟨N1, N1'⟩, -⟩, -, hSt, -, hRo⟩ := hT
  have hti : (nI t).toInt = (t : Int) := i_n (by omega)
  have hR4 := hRo.2.2.2.2.1
  refine ⟨ic_ (m_A σ 8) (m_A σ 9) n (m_I σ 1) (m_A σ 53 4) (m_I σ 59) (nI t) who, ?_, X4_inchesOf_l P1 P2 w1 w3 (by omega) (by omega), ic_rg P2 w1 w3 (by omega) (by omega) (by omega)⟩
  rw [X11_inches_l U1 A1 S1 hSt.1 F7 A4 F0 Q1 P2 w1 (by rw [N1]; omega) (by omega), S4, N1, hSt.2.2.2.1.2.2.2.2.2]
/-- whose face it is, on both sides -/
theorem TW.his {g : GS} {ρ : Nat → Nat} {a sc v u x sa ra oa r m n k h : Nat} {σ : MS} (hT : TW g ρ a sc v u x sa ra oa r m n k h σ) (t : Int32) : ∃ w, X2_isHis sc t g = some w ∧ X4_whoseIn t σ = some w := by
  obtain ⟨⟨-, -, -, ⟨S1, S2, S3, S4, S5⟩, ⟨-, ⟨P3, P4⟩, -⟩, ⟨-, Q2, -⟩, -, -, v2, -⟩, -⟩ := hT
  refine ⟨wy_ (m_A σ 10) (m_A σ 11) t 0 k, X2_isHis_l S1 Q2 P4 v2, ?_⟩
  unfold X4_whoseIn
  rw [X4_whoseBy_l P3 P4, e_ob]
theorem op_both {a o : Nat} {g : GS} {σ : MS} (hr : Rel a o g σ) : OpI a o (X1_both a g) (X4_both σ) := by
  obtain ⟨ρ, sc, v, n, k, h, y, m, T, hp⟩ := hr
  have hp0 := hp.m (s0_eq (c := 0))
  obtain ⟨g1, b1, b2, b3, b4⟩ := newtake hp0
  obtain ⟨-, hs1, hT6⟩ := hp0.1
  obtain ⟨e, e', dc, ds, m1, m2, m3, m4, m5, m6, m7⟩ := la2_t (body := fun a1 : Int32 × Int32 × GS => X1_both_b17 a (gz g) a1.1 a1.2.1 a1.2.2) (body' := fun a : Int32 × Int32 × MS => X4_both_b9 a.1 a.2.1 a.2.2)
    (I := fun j a1 b c d => c = 0 ∧ d = 0 ∧ ∃ t, a1.2.1 = nI t ∧ b.2.1 = nI t ∧ t ≤ T + 1 ∧ j = T + 1 - t ∧ a1.1 = b.1 ∧ Fr (fun q => q = v) g1 a1.2.2 ∧ Mf [] [57, 58] (s_I σ 0 0) b.2.2)
    (Q := fun e e' c d => c = 0 ∧ d = 0 ∧ e.1 = e'.1 ∧ Fr (fun q => q = v) g1 e.2 ∧ Mf [] [57, 58] (s_I σ 0 0) e'.2)
    (by
      rintro j ⟨b, i1, g2⟩ ⟨c1, i2, σ2⟩ c d ⟨c0, d0, t, e1, e2, t1, t2, e3, e5, e6⟩
      simp only at e1 e2 e3 e5 e6 ⊢
      subst c0 d0 e1 e2 e3
      have hT2 := b2.to (e5.mono (fun _ _ k => Or.inl k)) (e6.mono (fun _ k => k) (by decide))
      obtain ⟨⟨⟨A1, A2, A3, A4, A5⟩, -, -, ⟨S1, S2, S3, S4, S5⟩, ⟨⟨P1, P2⟩, -⟩, -⟩, ⟨⟨U1, -⟩, -⟩, -⟩ := id hT2
      have e9 : sm_ (m_A σ2 9) n = nI T := by rw [e6.Af (by decide)]; exact hs1
      have hla : LaP σ2 n T := ⟨P1, P2, e9, hT6⟩
      unfold X1_both_b17 X4_both_b9 X4_both_j51
      rw [e_wk A1, A4, e_nn, e_wk S1, S5, e9, hla.l, e_ob]
      by_cases ht : t ≤ T
      · have hlt : ¬ nI T < nI t := nI_nlt ht (by omega)
        obtain ⟨z1, f1, f2, f3⟩ := hT2.inch (t := t) (by omega) 0
        obtain ⟨w1, g3, σ3, h1, h2, h3, h4, h5, h6, h7⟩ := hT2.turn f3
        obtain ⟨z2, f4, f5, f6⟩ := h3.inch (t := t) (by omega) 1
        obtain ⟨w2, g4, σ4, k1, k2, k3, k4, k5, k6, k7⟩ := h3.turn f6
        rw [if_neg hlt, if_neg hlt, e_wk U1, f1, e_ob, h1, e_cb, e_wk h3.2.1.1.1, f4, e_ob, e_wk h3.1.1.1, k1, e_cb, f2, e_ob, h2, e_cb, f5, e_ob, k2, e_cb, (off_l (x := w1) (y := w2) (by omega) (by omega)).1, e_ob, nI_1]
        have hF : Fr (fun q => q = v) g1 g4 := (e5.trans h4 (fun _ _ k => k)).trans k4 (fun _ _ k => k)
        have hM : Mf [] [57, 58] (s_I σ 0 0) σ4 := (e6.trans h6 (fun _ k => k) (fun _ k => k)).trans k6 (fun _ k => k) (fun _ k => k)
        unfold jmax_
        by_cases q : jabs_ (w1 - w2) ≤ b
        · rw [if_pos q, if_neg (by rw [nlt_le]; exact q)]
          exact Or.inl ⟨_, _, 0, 0, j - 1, by omega, rfl, rfl, rfl, rfl, t + 1, rfl, rfl, by omega, by omega, rfl, hF, hM⟩
        · rw [if_neg q, if_pos (nle_lt.mp q)]
          exact Or.inl ⟨_, _, 0, 0, j - 1, by omega, rfl, rfl, rfl, rfl, t + 1, rfl, rfl, by omega, by omega, rfl, hF, hM⟩
      · have hlt : nI T < nI t := nI_lt (by omega) (by omega)
        rw [if_pos hlt, if_pos hlt]
        exact Or.inr ⟨_, _, 0, 0, rfl, rfl, rfl, rfl, rfl, e5, e6⟩)
    fu_ (T + 1) (0, 0, g1) (0, 0, s_I σ 0 0) 0 0 ⟨rfl, rfl, 0, rfl, rfl, Nat.zero_le _, rfl, rfl, Fr.rf, Mf.rf⟩ (by unfold fu_; omega)
  obtain ⟨e1, e2⟩ := e
  obtain ⟨f1, f2⟩ := e'
  simp only at m5 m6 m7
  obtain ⟨rfl⟩ : dc = 0 := by omega
  obtain ⟨rfl⟩ : ds = 0 := by omega
  subst m5
  have hav : ¬ a = gz g := by have := hp.1.1.1.2.2.1; omega
  refine ⟨(e1 + 1) / 2, e2, 4, 1811, f2, ?_, ?_, hp0.q ((b3.mono (W' := fun q => q = v) (fun _ _ k => k.elim)).trans m6 (fun _ _ k => k)) (nr_ag (r := 9)) (m7.eq (by decide) (by decide)), by omega, by omega⟩
  · unfold X1_both
    rw [e_al, e_wk (by rw [K_nw, if_neg hav]; exact hp.1.1.1.1), R_nw, if_neg hav, hp.2.1.1, e_nn, b1, e_ca, m1, e_oa, bp_0, e_dv (by decide), e_b0]
    rfl
  · unfold X4_both
    rw [m2, e_ob, e_dv (by decide)]
theorem op_quickest {a o : Nat} {g : GS} {σ : MS} (hr : Rel a o g σ) (what : Int32) : OpT [(1, 1)] a o (X1_quickest a what g) (X4_quickest what σ) := by
  obtain ⟨ρ, sc, v, n, k, h, y, m, T, hp⟩ := hr
  have hp0 := hp.m (s0_eq (c := 0))
  unfold X1_quickest X4_quickest
  cases hw : wi_ what 0 1 with
  | false =>
    refine OpT.ex (e := 1) (q := gz g) (r := 0) (g' := g) (σ' := s_I (s_I σ 0 0) 0 1) (dc := 1) (ds := 6) ?_ ?_ (hp0.r s0_eq) (by omega) (by omega) (List.mem_cons_self)
    · rw [X1_oneOf_f hw, e_tcr, e_b0]
    · rw [X4_isWhat_f s0_0 hw, e_cb, if_pos rfl]
  | true =>
    rw [X1_oneOf_t hw, e_tcl, bp_0, X4_isWhat_t s0_0 hw, e_cb, if_neg nn01]
    obtain ⟨g1, b1, b2, b3, b4⟩ := newtake hp0
    obtain ⟨-, hs1, hT6⟩ := hp0.1
    obtain ⟨e, e', dc, ds, m1, m2, m3, m4, m5, m6, m7⟩ := la2_t (body := fun a1 : Int32 × Int32 × Int32 × GS => X1_quickest_b26 a what (gz g) a1.1 a1.2.1 a1.2.2.1 a1.2.2.2) (body' := fun a : Int32 × Int32 × Int32 × MS => X4_quickest_b23 what a.1 a.2.1 a.2.2.1 a.2.2.2)
      (I := fun j a1 b c d => c = 0 ∧ d = 0 ∧ ∃ t, a1.2.2.1 = nI (t + 1) ∧ b.2.2.1 = nI (t + 1) ∧ t ≤ T ∧ j = T - t ∧ ((a1.1 = 0 ∧ a1.2.1 = -1 ∧ b.1 = 0 ∧ b.2.1 = 0) ∨ (a1.1 = b.2.1 ∧ a1.2.1 = b.1 ∧ 0 < b.2.1.toInt ∧ 0 ≤ b.1.toInt)) ∧ Fr (fun q => q = v) g1 a1.2.2.2 ∧ Mf [] [57, 58] (s_I σ 0 0) b.2.2.2)
      (Q := fun e e' c d => c = 0 ∧ d = 0 ∧ ((e.1 = 0 ∧ e.2.1 = -1 ∧ e'.1 = 0 ∧ e'.2.1 = 0) ∨ (e.1 = e'.2.1 ∧ e.2.1 = e'.1 ∧ 0 < e'.2.1.toInt ∧ 0 ≤ e'.1.toInt)) ∧ Fr (fun q => q = v) g1 e.2.2 ∧ Mf [] [57, 58] (s_I σ 0 0) e'.2.2)
      (by
        rintro j ⟨b, bm, i1, g2⟩ ⟨c1, c2, i2, σ2⟩ c d ⟨c0, d0, t, e1, e2, t1, t2, e3, e5, e6⟩
        simp only at e1 e2 e3 e5 e6 ⊢
        subst c0 d0 e1 e2
        have hT2 := b2.to (e5.mono (fun _ _ k => Or.inl k)) (e6.mono (fun _ k => k) (by decide))
        obtain ⟨⟨⟨A1, A2, A3, A4, A5⟩, -, -, ⟨S1, S2, S3, S4, S5⟩, ⟨⟨P1, P2⟩, -⟩, -⟩, ⟨⟨U1, -⟩, -⟩, -⟩ := id hT2
        have e9 : sm_ (m_A σ2 9) n = nI T := by rw [e6.Af (by decide)]; exact hs1
        have hla : LaP σ2 n T := ⟨P1, P2, e9, hT6⟩
        unfold X1_quickest_b26 X4_quickest_b23 X4_quickest_j86 X4_quickest_j92 X1_quickest_j103
        rw [e_wk A1, A4, e_nn, e_wk S1, S5, e9, hla.l, e_ob]
        by_cases ht : t + 1 ≤ T
        · have hlt : ¬ nI T < nI (t + 1) := nI_nlt ht (by omega)
          obtain ⟨p1, q1, q2⟩ := hT2.his (nI (t + 1))
          obtain ⟨z1, f1, f2, f3⟩ := hT2.inch (t := t + 1) (by omega) p1
          obtain ⟨w1, g3, σ3, h1, h2, h3, h4, h5, h6, h7⟩ := hT2.turn f3
          obtain ⟨p2, q3, q4⟩ := h3.his (nI t)
          obtain ⟨z2, f4, f5, f6⟩ := h3.inch (t := t) (by omega) p2
          obtain ⟨w2, g4, σ4, k1, k2, k3, k4, k5, k6, k7⟩ := h3.turn f6
          have hoff := off_l (x := w1) (y := w2) (by omega) (by omega)
          have hj0 : 0 ≤ (jabs_ (w1 - w2)).toInt := by rw [hoff.2]; split <;> omega
          rw [if_neg hlt, if_neg hlt, e_nn, e_wk S1, q1, e_ob, e_wk U1, f1, e_ob, h1, e_cb, e_wk h3.1.1.1, h3.1.1.2.2.2.1, e_nn, e_wk h3.1.2.2.2.1.1, nI_pred, q3, e_ob, e_wk h3.2.1.1.1, f4, e_ob, k1, e_cb, q2, e_ob, f2, e_ob, h2, e_cb, q4, e_ob, f5, e_ob, k2, e_cb, hoff.1, e_ob]
          have hF : Fr (fun q => q = v) g1 g4 := (e5.trans h4 (fun _ _ k => k)).trans k4 (fun _ _ k => k)
          have hM : Mf [] [57, 58] (s_I σ 0 0) σ4 := (e6.trans h6 (fun _ k => k) (fun _ k => k)).trans k6 (fun _ k => k) (fun _ k => k)
          have hti : (nI (t + 1)).toInt = ((t + 1 : Nat) : Int) := i_n (by omega)
          have ht0 : 0 < (nI (t + 1)).toInt := by omega
          rcases e3 with ⟨rfl, rfl, rfl, rfl⟩ | ⟨rfl, rfl, u3, u4⟩
          · rw [if_pos (show (-1 : Int32) < jabs_ (w1 - w2) by rw [i_lt, k_n1]; omega), if_pos (show (0 : Int32) ≤ 0 by decide)]
            exact Or.inl ⟨_, _, 0, 0, j - 1, by omega, rfl, rfl, rfl, rfl, t + 1, nI_1 _, nI_1 _, by omega, by omega, Or.inr ⟨rfl, rfl, ht0, hj0⟩, hF, hM⟩
          · have hnle : ¬ b ≤ 0 := by rw [i_le, k_0]; omega
            rw [if_neg hnle]
            by_cases q : bm < jabs_ (w1 - w2)
            · rw [if_pos q, if_pos q]
              exact Or.inl ⟨_, _, 0, 0, j - 1, by omega, rfl, rfl, rfl, rfl, t + 1, nI_1 _, nI_1 _, by omega, by omega, Or.inr ⟨rfl, rfl, ht0, hj0⟩, hF, hM⟩
            · rw [if_neg q, if_neg q]
              exact Or.inl ⟨_, _, 0, 0, j - 1, by omega, rfl, rfl, rfl, rfl, t + 1, nI_1 _, nI_1 _, by omega, by omega, Or.inr ⟨rfl, rfl, u3, u4⟩, hF, hM⟩
        · have hlt : nI T < nI (t + 1) := nI_lt (by omega) (by omega)
          rw [if_pos hlt, if_pos hlt]
          exact Or.inr ⟨_, _, 0, 0, rfl, rfl, rfl, rfl, e3, e5, e6⟩)
      fu_ T (0, (-1), 1, g1) (0, 0, 1, s_I σ 0 0) 0 0 ⟨rfl, rfl, 0, rfl, rfl, Nat.zero_le _, rfl, Or.inl ⟨rfl, rfl, rfl, rfl⟩, Fr.rf, Mf.rf⟩ (by unfold fu_; omega)
    obtain ⟨e1, e2, e3⟩ := e
    obtain ⟨f1, f2, f3⟩ := e'
    simp only at m5 m6 m7
    obtain ⟨rfl⟩ : dc = 0 := by omega
    obtain ⟨rfl⟩ : ds = 0 := by omega
    have hav : ¬ a = gz g := by have := hp.1.1.1.2.2.1; omega
    have hrel := hp0.q ((b3.mono (W' := fun q => q = v) (fun _ _ k => k.elim)).trans m6 (fun _ _ k => k)) (nr_ag (r := 9)) (m7.eq (by decide) (by decide))
    have hth : m_I f3 0 = 0 := by rw [m7.I (by decide)]; rfl
    rw [e_al, e_wk (by rw [K_nw, if_neg hav]; exact hp.1.1.1.1), R_nw, if_neg hav, hp.2.1.1, e_nn, b1, e_ca, m1, e_oa, bp_0, m2, e_ob]
    have hval : jmax_ 0 e2 = f1 ∧ e1 = f2 := by
      rcases m5 with ⟨rfl, rfl, rfl, rfl⟩ | ⟨rfl, rfl, u3, u4⟩
      · exact ⟨rfl, rfl⟩
      · refine ⟨?_, rfl⟩
        unfold jmax_
        by_cases q : (0 : Int32) < e2
        · rw [if_pos q]
        · rw [if_neg q, i_eq, k_0]
          rw [i_lt, k_0] at q
          omega
    by_cases hwh : what = 0
    · rw [if_pos hwh, if_pos hwh]
      refine OpT.ok (r := f1) (g' := e3) (dc := 4) (ds := 1811) ?_ rfl hrel (by omega) (by omega) hth
      rw [← hval.1]
      rfl
    · rw [if_neg hwh, if_neg hwh]
      refine OpT.ok (r := f2) (g' := e3) (dc := 4) (ds := 1811) ?_ rfl hrel (by omega) (by omega) hth
      rw [← hval.2]
      rfl
theorem op_light {a o : Nat} {g : GS} {σ : MS} (hr : Rel a o g σ) (mi tk : Int32) : OpT [(2, 1)] a o (X1_light a mi tk g) (X4_light mi tk σ) := by
  obtain ⟨ρ, sc, v, n, k, h, y, m, T, hp⟩ := hr
  have hp0 := hp.m (s0_eq (c := 0))
  have hbad : OpT [(2, 1)] a o (X1_light_j25 a mi tk 0 g) (X4_light_j31 mi tk 0 (s_I σ 0 0)) := by
    refine OpT.ex (e := 2) (q := gz g) (r := 0) (g' := g) (σ' := s_I (s_I σ 0 0) 0 1) (dc := 1) (ds := 6) rfl ?_ (hp0.r s0_eq) (by omega) (by omega) (List.mem_cons_self)
    unfold X4_light_j31
    rw [X4_right0 s0_0 (by decide), e_cb, if_pos rfl]
  have hgood : OpT [(2, 1)] a o (X1_light_j25 a mi tk 1 g) (X4_light_j31 mi tk 1 (s_I σ 0 0)) := by
    obtain ⟨g', σ', b1, b2, b3, b4, b5, b6⟩ := take_l hp0
    have hme : MEq (s_I σ 0 0) σ' := b6.eq (by decide) (by decide)
    have hth : m_I σ' 0 = 0 := by rw [b6.I (by decide)]; rfl
    have hrel := hp0.q b4 (nr_ag (r := 9)) hme
    have hof := b3.of
    have hla := b3.la
    have hx := b3.x
    have hT := hla.2.2.2
    have hu := hx.2.2.2.1
    have hC := b3.1.1
    have hs5 : gI g' sc 6 = nI T := by rw [hC.2.2.2.1.2.2.2.2, b3.2.2.1]
    have hR0 := b3.1.2.2.2.2.2.2.1
    have hva : ¬ a = v := by
      intro q
      have q1 := hp.1.1.1.1
      rw [q, hp.1.1.2.1.1] at q1
      omega
    have hay : gR g' a 1 = y + 1 := by rw [b4.R hp.1.1.1.2.2.1 hva, hp.2.1.1]
    have hl64 : (nI T + 1).toInt64 = (nI T).toInt64 + 1 := by rw [nI_1, nI_l (by omega), nI_l (by omega), lN_1]
    have e63 : ∀ c, m_A (s_A σ' 53 0 c) 63 = m_A σ' 63 := fun c => (Mf.sA (LI := []) (LA := [53]) (by decide)).Af (by decide)
    have e530 : ∀ c, m_A (s_A σ' 53 0 c) 53 0 = c := fun c => by rw [rA_sA, if_pos ⟨rfl, rfl⟩]
    obtain ⟨e, e', dc, ds, m1, m2, m3, m4, m5, m6, m7⟩ := la2_t (body := fun a1 : Int32 × Int64 × Int64 × Int32 × GS => X1_light_b45 a mi tk (gz g) a1.1 a1.2.1 a1.2.2.1 a1.2.2.2.1 a1.2.2.2.2) (body' := fun a : Int32 × Int64 × Int64 × Int32 × MS => X4_light_b63 mi tk (m_A σ' 53 0) a.1 a.2.1 a.2.2.1 a.2.2.2.1 a.2.2.2.2)
      (I := fun j a1 b c d => c = 0 ∧ d = 0 ∧ ∃ t, a1.2.2.2.1 = nI t ∧ b.2.2.2.1 = nI t ∧ t ≤ 60 ∧ j = 60 - t ∧ a1.1 = b.1 ∧ a1.2.1 = b.2.1 ∧ a1.2.2.1 = b.2.2.1 ∧ g' = a1.2.2.2.2 ∧ ∃ c, b.2.2.2.2 = s_A σ' 53 0 c)
      (Q := fun e e' c d => c = 0 ∧ d = 0 ∧ e.1 = e'.1 ∧ e.2 = g' ∧ ∃ c, e'.2 = s_A σ' 53 0 c)
      (by
        rintro j ⟨b, up, lo, i1, g2⟩ ⟨b', up', lo', i2, σ2⟩ c d ⟨c0, d0, t, e1, e2, t1, t2, e3, e4, e5, e6, c', e7⟩
        simp only at e1 e2 e3 e4 e5 e6 e7 ⊢
        subst c0 d0 e1 e2 e3 e4 e5 e6 e7
        have h60 : ((60 : Int32) - m_A σ' 53 0).toInt = 60 - (m_A σ' 53 0).toInt := by
          have : ((60 : Int32)).toInt = 60 := by decide
          rw [i_sub (by omega) (by omega), this]
        have hti : (nI t).toInt = (t : Int) := i_n (by omega)
        unfold X1_light_b45 X4_light_b63 X1_light_j134 X4_light_j143 X1_light_j146 X4_light_j155
        rw [e_wk hC.1.1, hay, e_nn, e_wk hx.2.1, hx.2.2.1]
        by_cases ht : (60 : Int32) - m_A σ' 53 0 < nI t
        · rw [if_pos ht, if_pos ht]
          exact Or.inr ⟨_, _, 0, 0, rfl, rfl, rfl, rfl, rfl, rfl, c', rfl⟩
        · have ht' := ht
          rw [i_lt, h60, hti] at ht'
          rw [if_neg ht, if_neg ht, e_nn, e_wk hx.2.1, e_wk hu, X11_sharp2_l hof, e_ob, e_i0 (by omega) (by omega), cl_0, sA_sA, X4_sharpMany_l hla.sA, e_ob, e63, e530, hx.2.2.1]
          have hA0 : gR g' a 0 = sc + 1 := hC.1.2.2.2.1
          rw [hA0, e_nn, e_wk hC.2.2.2.1.1, hs5, hl64, hla.sA.l, e_ob, nI_1]
          have hgo : ∀ (q : Int32) (q2 q3 : Int64), (∃ a' b'' dc dk m', m' < j ∧ (some (Sum.inl (q, q2, q3, nI (t + 1), g'), 0, 0) : Option (((Int32 × Int64 × Int64 × Int32 × GS) ⊕ (Int32 × GS)) × Nat × Nat)) = some (.inl a', dc, dk) ∧ (some (Sum.inl (q, q2, q3, nI (t + 1), s_A σ' 53 0 (m_A σ' 53 0 + nI t))) : Option ((Int32 × Int64 × Int64 × Int32 × MS) ⊕ (Int32 × MS))) = some (.inl b'') ∧ dc + 0 = 0 ∧ dk + 0 = 0 ∧ ∃ t, a'.2.2.2.1 = nI t ∧ b''.2.2.2.1 = nI t ∧ t ≤ 60 ∧ m' = 60 - t ∧ a'.1 = b''.1 ∧ a'.2.1 = b''.2.1 ∧ a'.2.2.1 = b''.2.2.1 ∧ g' = a'.2.2.2.2 ∧ ∃ c, b''.2.2.2.2 = s_A σ' 53 0 c) :=
            fun q q2 q3 => ⟨_, _, 0, 0, j - 1, by omega, rfl, rfl, rfl, rfl, t + 1, rfl, rfl, by omega, by omega, rfl, rfl, rfl, rfl, _, rfl⟩
          by_cases q1 : lg_cmp (cnt_ (m_A σ' 63) (m_A σ' 53 0 + nI t) T).toInt64 0 = 0
          · rw [if_pos q1, if_pos q1]
            exact Or.inl (hgo _ _ _)
          · rw [if_neg q1, if_neg q1]
            by_cases q2 : b = -1
            · rw [if_pos q2, if_pos q2]
              exact Or.inl (hgo _ _ _)
            · rw [if_neg q2, if_neg q2]
              split
              · exact Or.inl (hgo _ _ _)
              · exact Or.inl (hgo _ _ _))
      fu_ 60 ((-1), 0, 1, 0, g') ((-1), 0, 1, 0, σ') 0 0 ⟨rfl, rfl, 0, rfl, rfl, Nat.zero_le _, rfl, rfl, rfl, rfl, rfl, m_A σ' 53 0, (sA_id rfl).symm⟩ (by unfold fu_; omega)
    obtain ⟨e1, e2⟩ := e
    obtain ⟨f1, f2⟩ := e'
    obtain ⟨c, m7⟩ := m7
    simp only at m5 m6 m7
    obtain ⟨rfl⟩ : dc = 0 := by omega
    obtain ⟨rfl⟩ : ds = 0 := by omega
    subst m5 m6 m7
    refine OpT.ok (r := e1) (g' := e2) (σ' := σ') (dc := 4) (ds := 1811) ?_ ?_ hrel (by omega) (by omega) hth
    · unfold X1_light_j25
      rw [X1_right_t, e_tcl, bp_0, e_wk hp.1.1.1.1, b1, e_ca, m1, e_oa, bp_0]
      rfl
    · unfold X4_light_j31
      rw [X4_right1 s0_0, e_cb, if_neg nn01, b2, e_ob, e_i0 (by omega) (by omega), cl_0, m2, e_ob, e_i0 (by omega) (by omega), sA_sA, sA_id rfl]
  unfold X1_light X4_light X1_light_j24 X4_light_j30
  rw [X1_in_l, X4_within_l, e_ob, e_ob, X1_in_l, X4_within_l, e_ob, e_ob]
  cases hw : wi_ mi 0 99 with
  | false => exact hbad
  | true =>
    rw [if_pos rfl, if_neg nn01, if_neg nn01]
    cases hw2 : wi_ tk 1 99 with
    | false => exact hbad
    | true =>
      rw [if_pos rfl, if_neg nn01, if_neg nn01]
      exact hgood
