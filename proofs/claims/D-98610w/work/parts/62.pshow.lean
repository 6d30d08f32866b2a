/-! LAWS: what shows (own work) -/
set_option maxRecDepth 100000
/-- behind a run -/
def AR (g : GS) (ρ : Nat → Nat) (a sc v u x sa ra oa r m n k h T : Nat) (σ : MS) : Prop := TW g ρ a sc v u x sa ra oa r m n k h σ ∧ ArP g sa ra oa σ (T + 1) ∧ sm_ (m_A σ 9) n = nI T ∧ T ≤ 600
theorem AR.la {g : GS} {ρ : Nat → Nat} {a sc v u x sa ra oa r m n k h T : Nat} {σ : MS} (hA : AR g ρ a sc v u x sa ra oa r m n k h T σ) : LaP σ n T := by
  obtain ⟨⟨⟨-, -, -, -, ⟨⟨p1, p2⟩, -⟩, -⟩, -⟩, -, h3, h4⟩ := hA
  exact ⟨p1, p2, h3, h4⟩
theorem AR.of {g : GS} {ρ : Nat → Nat} {a sc v u x sa ra oa r m n k h T : Nat} {σ : MS} (hA : AR g ρ a sc v u x sa ra oa r m n k h T σ) : OfP g u oa T (m_A σ 63) := by
  obtain ⟨⟨⟨⟨a1, a2, a3, a4, a5⟩, -, -, ⟨s1, s2, s3, s4, s5⟩, -⟩, ⟨⟨u1, -, -⟩, ⟨-, -, -, f3, f7⟩, ⟨-, -, ⟨o1, o2, -, -⟩⟩, -⟩, -⟩, h2, h3, h4⟩ := hA
  exact ⟨u1, ⟨a, sc, f7, a1, a4, s1, by rw [s5, h3]⟩, h4, f3, o1, o2, fun t ht => (h2 t (by omega)).2.2.1⟩
theorem AR.x {g : GS} {ρ : Nat → Nat} {a sc v u x sa ra oa r m n k h T : Nat} {σ : MS} (hA : AR g ρ a sc v u x sa ra oa r m n k h T σ) : gR g u 0 = x + 1 ∧ gK g x = 3 ∧ gI g x 0 = m_A σ 53 0 ∧ gK g u = 10 ∧ gR g u 7 = a + 1 ∧ gK g a = 1 := by
  obtain ⟨⟨⟨⟨a1, -⟩, -⟩, ⟨⟨u1, -, -⟩, ⟨f0, -, -, -, f7⟩, -⟩, -, -, hS, -⟩, -⟩ := hA
  exact ⟨f0, hS.1, hS.2.2.2.1.1, u1, f7, a1⟩
theorem AR.to {g g' : GS} {ρ : Nat → Nat} {a sc v u x sa ra oa r m n k h T : Nat} {σ σ' : MS} (hA : AR g ρ a sc v u x sa ra oa r m n k h T σ) (hF : Fr (fun q => q = v) g g') (hM : Mf [] [57, 58] σ σ') : AR g' ρ a sc v u x sa ra oa r m n k h T σ' := by
  obtain ⟨hT, h2, h3, h4⟩ := hA
  refine ⟨hT.to (hF.mono (fun _ _ k => Or.inl k)) (hM.mono (fun _ k => k) (by decide)), ?_, by rw [hM.Af (by decide)]; exact h3, h4⟩
  obtain ⟨⟨-, ⟨b1, b2, b3, b4⟩, -⟩, ⟨-, -, ⟨⟨c1, c2, c3, c4⟩, ⟨d1, d2, d3, d4⟩, ⟨o1, o2, o3, o4⟩⟩, -⟩, -⟩ := hT
  have n1 : ¬ sa = v := by intro q; rw [q, b3] at c3; omega
  have n2 : ¬ ra = v := by intro q; rw [q, b3] at d3; omega
  have n3 : ¬ oa = v := by intro q; rw [q, b3] at o3; omega
  intro s hs
  rw [hF.I c4 n1, hF.I d4 n2, hF.I o4 n3, hM.A (j := 61) (by decide), hM.A (j := 62) (by decide), hM.A (j := 63) (by decide)]
  exact h2 s hs
theorem shows_l {g : GS} {ρ : Nat → Nat} {a sc v u x sa ra oa r m n k h T : Nat} {σ : MS} (hA : AR g ρ a sc v u x sa ra oa r m n k h T σ) {t : Nat} (ht : t ≤ T) :
    ∃ w g' σ', X11_shows u (nI t) g = some (w, g') ∧ X4_isShown (nI t) σ = some (w, σ') ∧ Fr (fun q => q = v) g g' ∧ gz g' = gz g ∧ Mf [] [57, 58] σ σ' ∧ (w = 0 ∨ w = 1) := by
  have hof := hA.of
  have hla := hA.la
  obtain ⟨hx0, hxk, hh0, hu1, hu7, ha1⟩ := hA.x
  have hsh := X11_isSharp2_l hof hx0 hxk ht
  rw [hh0] at hsh
  have hsh4 := X4_isSharp_l (σ := σ) (t := t) (by have := hA.2.2.2; omega)
  have hT6 := hA.2.2.2
  obtain ⟨hT, hAr, h3, h4⟩ := hA
  have hT0 := hT
  obtain ⟨⟨⟨a1, a2, a3, a4, a5⟩, ⟨b1, b2, b3, b4⟩, hS5, hSc⟩, ⟨⟨u1, u2, u3⟩, ⟨f0, f1, f2, f3, f7⟩, ⟨-, -, ⟨o1, o2, o3, o4⟩⟩, -⟩, ⟨⟨n1, n1'⟩, -, -⟩, hr, hSt, ⟨hm, hm6⟩, hR⟩ := hT
  obtain ⟨⟨s1, s2, s3, s4, s5⟩, ⟨⟨p1, p2⟩, ⟨p3, p4⟩, p5, p6⟩, ⟨q1, q2, q3⟩, ⟨-, d2⟩, w1, w2, w3, w4⟩ := hSc
  obtain ⟨of0, -, -⟩ := (hAr t (by omega)).2.2
  have hti : (nI t).toInt = (t : Int) := i_n (by omega)
  rcases sh_01 (hole := m_A σ 53 0) (v := m_A σ 63 t) with hq | hq
  · rcases d2 with ⟨e1, e2⟩ | ⟨b, c, kk, e1, e2, e3, e4, e5, e6⟩
    · refine ⟨1, g, σ, ?_, ?_, Fr.rf, rfl, Mf.rf, Or.inr rfl⟩
      · unfold X11_shows
        rw [e_wk u1, hsh, e_ob, hq, if_pos rfl, f7, e_nn, e_wk a1, a4, e_nn, e_wk s1, if_pos e1]
      · unfold X4_isShown
        rw [hsh4, e_ob, hq, if_pos rfl, if_pos e2]
    · obtain ⟨jo, hjo⟩ : ∃ jo, jo = jabs_ (m_A σ 63 t) := ⟨_, rfl⟩
      obtain ⟨ho, hho⟩ : ∃ ho, ho = m_A σ 53 0 := ⟨_, rfl⟩
      obtain ⟨g2, hg2⟩ : ∃ g2, g2 = pI (pI g v 0 jo) v 1 ho := ⟨_, rfl⟩
      obtain ⟨σ2, hσ2⟩ : ∃ σ2, σ2 = s_A (s_A σ 57 6 jo) 57 7 ho := ⟨_, rfl⟩
      have hF2 : Fr (fun q => q = v) g g2 := by
        rw [hg2]
        exact (Fr.pI (W := fun q => q = v) rfl).trans (Fr.pI (W := fun q => q = v) rfl) (fun _ _ k => k)
      have hM2 : Mf [] [57] σ σ2 := by
        rw [hσ2]
        exact (Mf.sA (by decide)).trans (Mf.sA (LI := []) (LA := [57]) (by decide)) (fun _ k => k) (fun _ k => k)
      have hT2 := hT0.to (hF2.mono (fun _ _ k => Or.inl k)) (hM2.mono (LA := [57, 58, 61, 62, 63]) (fun _ k => k) (by decide))
      obtain ⟨⟨⟨A1, A2, A3, A4, A5⟩, ⟨B1, B2, B3, B4⟩, hS5', ⟨S1, S2, S3, S4, S5⟩, -, ⟨Q1, Q2, Q3⟩, -, -⟩, ⟨⟨U1, U2, U3⟩, ⟨F0, F1, F2, F3, F7⟩, -, -⟩, ⟨⟨N1, -⟩, -⟩, -, hSt2, -, -⟩ := hT2
      have e53 : m_A σ2 53 = m_A σ 53 := hM2.Af (by decide)
      obtain ⟨pl, hpl⟩ : ∃ pl, pl = ic_ (m_A σ 8) (m_A σ 9) n (m_I σ 1) (m_A σ 53 4) (m_I σ 59) (nI t) (wy_ (m_A σ 10) (m_A σ 11) (nI t) 0 k) := ⟨_, rfl⟩
      have hwho : X4_whoseIn (nI t) σ2 = some (wy_ (m_A σ 10) (m_A σ 11) (nI t) 0 k) := by
        unfold X4_whoseIn
        rw [X4_whoseBy_l (by rw [hM2.I (by decide)]; exact p3) p4, e_ob, hM2.Af (j := 10) (by decide), hM2.Af (j := 11) (by decide)]
      have hinc : X4_inchesOf (nI t) (wy_ (m_A σ 10) (m_A σ 11) (nI t) 0 k) σ2 = some pl := by
        rw [X4_inchesOf_l (n := n) (by rw [hM2.I (by decide)]; exact p1) p2 (by rw [hM2.Af (j := 8) (by decide), hM2.Af (j := 9) (by decide)]; exact w1) (by rw [hM2.I (by decide)]; exact w3) (by rw [hM2.I (by decide)]; omega) (by omega), hM2.Af (j := 8) (by decide), hM2.Af (j := 9) (by decide), hM2.I (k := 1) (by decide), hM2.I (k := 59) (by decide), hM2.A (j := 53) (by decide), hpl]
      have hhis : X2_isHis sc (nI t) g2 = some (wy_ (m_A σ 10) (m_A σ 11) (nI t) 0 k) := by
        have := X2_isHis_l (t := nI t) S1 Q2 p4 (by rw [hM2.Af (j := 10) (by decide), hM2.Af (j := 11) (by decide)]; exact w2)
        rw [hM2.Af (j := 10) (by decide), hM2.Af (j := 11) (by decide)] at this
        exact this
      have hin : X11_inches u (nI t) (wy_ (m_A σ 10) (m_A σ 11) (nI t) 0 k) g2 = some pl := by
        rw [X11_inches_l U1 A1 S1 hSt2.1 F7 A4 F0 Q1 p2 (by rw [hM2.Af (j := 8) (by decide), hM2.Af (j := 9) (by decide)]; exact w1) (by rw [N1, hM2.I (by decide)]; omega) (by omega), S4, N1, hSt2.2.2.2.1.2.2.2.2.2, e53, hM2.Af (j := 8) (by decide), hM2.Af (j := 9) (by decide), hM2.I (k := 1) (by decide), hM2.I (k := 59) (by decide), hpl]
      have hFL : FL [6, 7, 5] (pI g2 v 2 pl) ρ ff_ b c := by
        have z3' : FL [6, 7, 5] g2 ρ ff_ b c := (e2.le (n' := ff_) (by decide)).to hF2 (fun _ _ k => k) (fun q hq k k' => by rw [k', b3] at k; omega)
        exact z3'.to (W := fun q => q = v) (Fr.pI rfl) (fun _ _ k => k) (fun q hq k k' => by rw [k', b3] at k; omega)
      obtain ⟨w, v1, v2⟩ := ev_l (g := pI g2 v 2 pl) (v := v) (T := m_A (s_A σ2 57 5 pl) 57) hS5' (by rw [K_pI, B1]) (by rw [N_pI, B2]; exact ⟨by decide, by omega⟩) (fun w y hy => by
        have hw : w < 3 := (List.getElem?_eq_some_iff.mp hy).1
        rw [hg2, hσ2]
        simp only [rA_sA, I_pI]
        match w, hw, hy with
        | 0, _, hy => cases hy; exact ⟨6, by omega, rfl, rfl⟩
        | 1, _, hy => cases hy; exact ⟨7, by omega, rfl, rfl⟩
        | 2, _, hy => cases hy; exact ⟨5, by omega, rfl, rfl⟩) ff_ b c hFL
      have hM5 : Mf [] [57] σ (s_A σ2 57 5 pl) := hM2.trans (Mf.sA (LI := []) (LA := [57]) (by decide)) (fun _ k => k) (fun _ k => k)
      obtain ⟨σ5, k1, k2⟩ := reck_l v2 (σ := s_A σ2 57 5 pl) (k := kk) (by rw [hM5.Af (by decide)]; exact e4) e5 e6 (fun _ _ => rfl)
      have hscv : ¬ sc = v := by intro q; rw [q, b1] at s1; omega
      have hxv : ¬ x = v := by intro q; rw [q, b1] at hxk; omega
      have hoav : ¬ oa = v := by intro q; rw [q, b3] at o3; omega
      have ejo : jabs_ (gI g oa t) = jo := by rw [of0, hjo]
      have eho : gI (pI g v 0 jo) x 0 = ho := by rw [I_pI, if_neg (by rintro ⟨q, -⟩; exact hxv q), hh0, hho]
      refine ⟨if w ≤ 0 then 0 else 1, pI g2 v 2 pl, σ5, ?_, ?_, hF2.trans (Fr.pI (W := fun q => q = v) rfl) (fun _ _ k => k), by rw [z_pI, hg2]; rfl, (hM5.mono (LA := [57, 58]) (fun _ k => k) (by decide)).trans k2 (fun _ k => k) (by decide), ?_⟩
      · unfold X11_shows
        rw [e_wk u1, hsh, e_ob, hq, if_pos rfl, f7, e_nn, e_wk a1, a4, e_nn, e_wk s1, if_neg (by omega), e_nn, e_wk a1, a5, e_nn, f3, e_nn, e_rk (by rw [o1]), e_inN (by rw [o2]; omega) (by rw [o2]; omega), e_wk b1, e_i0 (by rw [b2]; omega) (by rw [b2]; omega), cl_0, nI_clamp (by omega), ejo]
        have b20 : (1 : Nat) < 5 := by omega
        simp only [R_pI, K_pI, N_pI, e_wk, e_nn, e_i1, f7, f0, a1, a5, a4, b1, b2, hxk, cl_1, cl_2, eho, show (1 : Nat) < 5 from by omega, show (2 : Nat) < 5 from by omega, show (5 : Nat) < 2 ^ 31 from by omega, s1]
        rw [← hg2, hhis, e_ob, hin, e_ob]
        simp only [e_i2, show (2 : Nat) < 5 from by omega, show (5 : Nat) < 2 ^ 31 from by omega, R_pI, K_pI, e_wk, e_nn, U1, F7, A1, A4, S1, A5, hF2.R s3 hscv, e1, v1, e_ob]
        split <;> rfl
      · unfold X4_isShown
        rw [hsh4, e_ob, hq, if_pos rfl, e3, if_neg (by rw [i_eq, i_n (by omega), k_n1]; omega), e_inN (by omega) (by omega), nI_clamp (by omega), off0_l, e_ob, ← hjo, e_i6 (by omega) (by omega), e_i0 (by omega) (by omega), e_i7 (by omega) (by omega), cl_6, cl_7, cl_0, ← hho, ← hσ2, hwho, e_ob, hinc, e_ob, e_i5 (by omega) (by omega), cl_5, k1, e_cb]
        split <;> rfl
      · split
        · exact Or.inl rfl
        · exact Or.inr rfl
  · refine ⟨0, g, σ, ?_, ?_, Fr.rf, rfl, Mf.rf, Or.inl rfl⟩
    · unfold X11_shows
      rw [e_wk u1, hsh, e_ob, hq, if_neg (by decide)]
    · unfold X4_isShown
      rw [hsh4, e_ob, hq, if_neg (by decide)]
theorem shown_l {g : GS} {ρ : Nat → Nat} {a sc v u x sa ra oa r m n k h T : Nat} {σ : MS} (hA : AR g ρ a sc v u x sa ra oa r m n k h T σ) :
    ∃ w g' σ', X11_shown u g = some (w, g') ∧ lp_ (fun a : Int32 × Int32 × MS => X4_all_b74 5 a.1 a.2.1 a.2.2) fu_ (0, 0, σ) = some (w, σ') ∧ Fr (fun q => q = v) g g' ∧ gz g' = gz g ∧ Mf [] [57, 58] σ σ' := by
  have hT6 := hA.2.2.2
  obtain ⟨e, e', m1, m2, m3, m4, m5, m6⟩ := lp2_t (body := fun a : Int32 × Int32 × GS => X11_shown_b4 u a.1 a.2.1 a.2.2) (body' := fun a : Int32 × Int32 × MS => X4_all_b74 5 a.1 a.2.1 a.2.2)
    (I := fun j a b => ∃ t, a.2.1 = nI t ∧ b.2.1 = nI t ∧ t ≤ T + 1 ∧ j = T + 1 - t ∧ a.1 = b.1 ∧ Fr (fun q => q = v) g a.2.2 ∧ gz a.2.2 = gz g ∧ Mf [] [57, 58] σ b.2.2)
    (Q := fun e e' => e.1 = e'.1 ∧ Fr (fun q => q = v) g e.2 ∧ gz e.2 = gz g ∧ Mf [] [57, 58] σ e'.2)
    (by
      rintro j ⟨c, i1, g1⟩ ⟨c2, i2, σ1⟩ ⟨t, e1, e2, t1, t2, e3, e4, e5, e6⟩
      simp only at e1 e2 e3 e4 e5 e6 ⊢
      subst e1 e2 e3
      have hA1 := hA.to e4 e6
      obtain ⟨h1, ⟨a', sc', a1, a2, a3, a4, a5⟩, -⟩ := hA1.of
      unfold X11_shown_b4 X4_all_b74 X11_shown_j29 X4_all_j101 X4_all_j134
      rw [e_wk h1, a1, e_nn, e_wk a2, a3, e_nn, e_wk a4, a5, hA1.la.l, e_ob]
      by_cases ht : t ≤ T
      · obtain ⟨w, g2, σ2, b1, b2, b3, b4, b5, b6⟩ := shows_l hA1 ht
        rw [if_neg (nI_nlt ht (by omega)), b1, e_cb, if_neg (nI_nlt ht (by omega)), if_pos rfl, b2, e_cb]
        rcases b6 with q | q
        · rw [q, if_pos rfl, if_pos rfl, Int32.add_zero]
          exact Or.inl ⟨_, _, j - 1, by omega, rfl, rfl, t + 1, nI_1 t, nI_1 t, by omega, by omega, rfl, e4.trans b3 (fun _ _ k => k), by show gz g2 = gz g; omega, e6.trans b5 (fun _ k => k) (fun _ k => k)⟩
        · rw [q, if_neg (by decide), if_neg (by decide)]
          exact Or.inl ⟨_, _, j - 1, by omega, rfl, rfl, t + 1, nI_1 t, nI_1 t, by omega, by omega, rfl, e4.trans b3 (fun _ _ k => k), by show gz g2 = gz g; omega, e6.trans b5 (fun _ k => k) (fun _ k => k)⟩
      · rw [if_pos (nI_lt (by omega) (by omega)), if_pos (nI_lt (by omega) (by omega))]
        exact Or.inr ⟨_, _, rfl, rfl, rfl, e4, e5, e6⟩)
    fu_ (T + 1) (0, 0, g) (0, 0, σ) ⟨0, rfl, rfl, Nat.zero_le _, rfl, rfl, Fr.rf, rfl, Mf.rf⟩ (by unfold fu_; omega)
  obtain ⟨e1, e2⟩ := e
  obtain ⟨f1, f2⟩ := e'
  simp only at m3 m4 m5 m6
  subst m3
  refine ⟨e1, e2, f2, ?_, m2, m4, m5, m6⟩
  unfold X11_shown
  rw [m1, e_ob]
