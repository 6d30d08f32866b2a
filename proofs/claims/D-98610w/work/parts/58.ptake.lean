/-! LAWS: a take (own work) -/
set_option maxRecDepth 100000
def RowOK (S : Nat → Int32) (m h : Nat) : Prop := (1 ≤ (S 0).toInt ∧ (S 0).toInt ≤ 60) ∧ (0 ≤ (S 1).toInt ∧ (S 1).toInt ≤ 24) ∧ (1 ≤ (S 2).toInt ∧ (S 2).toInt ≤ 90) ∧ (-30 ≤ (S 3).toInt ∧ (S 3).toInt ≤ 30) ∧ (0 ≤ (S 4).toInt ∧ (S 4).toInt ≤ 200) ∧ (-1 ≤ (S 5).toInt ∧ (S 5).toInt < h) ∧ ∀ i, i < m → 12 ≤ (S (6 + i)).toInt ∧ (S (6 + i)).toInt ≤ 480
/-- an array of the take -/
def TaP (g : GS) (ρ : Nat → Nat) (q : Nat) : Prop := gK g q = 100 ∧ gN g q = 601 ∧ ρ q = 9 ∧ q < gz g
def TkP (g : GS) (ρ : Nat → Nat) (u a x sa ra oa : Nat) : Prop :=
  (gK g u = 10 ∧ ρ u = 9 ∧ u < gz g) ∧ (gR g u 0 = x + 1 ∧ gR g u 1 = sa + 1 ∧ gR g u 2 = ra + 1 ∧ gR g u 3 = oa + 1 ∧ gR g u 7 = a + 1) ∧ (TaP g ρ sa ∧ TaP g ρ ra ∧ TaP g ρ oa) ∧ sa ≠ ra ∧ sa ≠ oa ∧ ra ≠ oa
/-- the take's own numbers are the model's -/
def TnP (g : GS) (u : Nat) (σ : MS) : Prop := (gI g u 4 = m_I σ 59 ∧ 0 ≤ (m_I σ 59).toInt ∧ (m_I σ 59).toInt ≤ 100) ∧ (gI g u 5 = m_I σ 64 ∧ -24 ≤ (m_I σ 64).toInt ∧ (m_I σ 64).toInt ≤ 24) ∧ gI g u 6 = m_I σ 60 ∧ -24 ≤ (m_I σ 60).toInt ∧ (m_I σ 60).toInt ≤ 24
def StP (g : GS) (ρ : Nat → Nat) (r x m h : Nat) (σ : MS) : Prop := (r ≠ 6 ∧ r ≠ 9) ∧ SetP g ρ r x m (m_A σ 53) ∧ (m_I σ 4 = nI m ∧ m ≤ 6) ∧ RowOK (m_A σ 53) m h
def TW (g : GS) (ρ : Nat → Nat) (a sc v u x sa ra oa r m n k h : Nat) (σ : MS) : Prop := CW g ρ a sc v n k h σ ∧ TkP g ρ u a x sa ra oa ∧ TnP g u σ ∧ StP g ρ r x m h σ
/-- what a take writes -/
def tw_ (v sa ra oa : Nat) : Nat → Prop := fun q => q = v ∨ q = sa ∨ q = ra ∨ q = oa
theorem TaP.to {W : Nat → Prop} {g g' : GS} {ρ ρ' : Nat → Nat} {q : Nat} (h : TaP g ρ q) (hF : Fr W g g') (hA : Ag g ρ ρ') : TaP g' ρ' q := by
  obtain ⟨a, b, c, d⟩ := h
  exact ⟨by rw [hF.K d, a], by rw [hF.N d, b], by rw [hA q d, c], hF.lt d⟩
theorem TkP.to {W : Nat → Prop} {g g' : GS} {ρ ρ' : Nat → Nat} {u a x sa ra oa : Nat} (h : TkP g ρ u a x sa ra oa) (hF : Fr W g g') (hA : Ag g ρ ρ') (hu : ∀ i, gR g' u i = gR g u i) : TkP g' ρ' u a x sa ra oa := by
  obtain ⟨⟨a1, a2, a3⟩, ⟨b0, b1, b2, b3, b7⟩, ⟨c1, c2, c3⟩, d⟩ := h
  exact ⟨⟨by rw [hF.K a3, a1], by rw [hA u a3, a2], hF.lt a3⟩, ⟨by rw [hu, b0], by rw [hu, b1], by rw [hu, b2], by rw [hu, b3], by rw [hu, b7]⟩, ⟨c1.to hF hA, c2.to hF hA, c3.to hF hA⟩, d⟩
/-- what the take writes leaves all else -/
theorem TW.to {g g' : GS} {ρ : Nat → Nat} {a sc v u x sa ra oa r m n k h : Nat} {σ σ' : MS} (hT : TW g ρ a sc v u x sa ra oa r m n k h σ) (hF : Fr (tw_ v sa ra oa) g g') (hM : Mf [] [57, 58, 61, 62, 63] σ σ') : TW g' ρ a sc v u x sa ra oa r m n k h σ' := by
  obtain ⟨hC, hK, ⟨⟨n1, n1'⟩, ⟨n2, n2'⟩, n3, n3'⟩, ⟨hr, hS, ⟨hm, hm6⟩, hR⟩⟩ := hT
  have hC0 := hC
  obtain ⟨⟨a1, a2, a3, a4, a5⟩, ⟨b1, b2, b3, b4⟩, -, -⟩ := hC0
  have hK0 := hK
  obtain ⟨⟨u1, u2, u3⟩, -, ⟨⟨c1, c2, c3, c4⟩, ⟨d1, d2, d3, d4⟩, ⟨e1, e2, e3, e4⟩⟩, -⟩ := hK0
  have hW : ∀ q, tw_ v sa ra oa q → gK g q = 100 ∧ (ρ q = 6 ∨ ρ q = 9) := by
    rintro q (rfl | rfl | rfl | rfl)
    · exact ⟨b1, Or.inl b3⟩
    · exact ⟨c1, Or.inr c3⟩
    · exact ⟨d1, Or.inr d3⟩
    · exact ⟨e1, Or.inr e3⟩
  have hu : ¬ tw_ v sa ra oa u := fun q => by have := (hW u q).1; omega
  have ha : ¬ tw_ v sa ra oa a := fun q => by have := (hW a q).1; omega
  refine ⟨hC.to hF Ag.rf (fun q _ k k' => by have := (hW q k').2; omega) ⟨hF.R a3 ha 0, hF.R a3 ha 2⟩ hM (by decide) (by decide), hK.to hF Ag.rf (fun i => hF.R u3 hu i), ⟨⟨by rw [hF.I u3 hu, n1, hM.I (by decide)], by rw [hM.I (by decide)]; exact n1'⟩, ⟨by rw [hF.I u3 hu, n2, hM.I (by decide)], by rw [hM.I (by decide)]; exact n2'⟩, by rw [hF.I u3 hu, n3, hM.I (by decide)], by rw [hM.I (by decide)]; exact n3'⟩, hr, ?_, ⟨by rw [hM.I (by decide)]; exact hm, hm6⟩, ?_⟩
  · rw [hM.Af (by decide)]
    exact hS.to hF Ag.rf (fun q _ k k' => by have := (hW q k').2; omega)
  · rw [hM.Af (by decide)]; exact hR
/-- where he saw a face -/
def pc_ (σ : MS) (n k : Nat) (t : Int32) : Int32 := ic_ (m_A σ 8) (m_A σ 9) n (m_I σ 1) (m_A σ 53 4) (m_I σ 59) (lt_ (m_A σ 53 1) t) (wy_ (m_A σ 10) (m_A σ 11) t (m_I σ 60) k)
theorem X4_sawAt_l {σ : MS} {n k : Nat} (hn : m_I σ 2 = nI n) (hn12 : n ≤ 12) (hk : m_I σ 3 = nI k) (hk6 : k ≤ 6) (hN : mvN (m_A σ 8) (m_A σ 9) n) (hf : 12 ≤ (m_I σ 1).toInt ∧ (m_I σ 1).toInt ≤ 480) (hl : 0 ≤ (m_I σ 59).toInt ∧ (m_I σ 59).toInt ≤ 1000) (hlag : 0 ≤ (m_A σ 53 1).toInt ∧ (m_A σ 53 1).toInt ≤ 1000) {t : Int32} (ht : 0 ≤ t.toInt ∧ t.toInt ≤ 1000) :
    X4_sawAt t σ = some (pc_ σ n k t) := by
  have h1 := lt_rg hlag (t := t) (by omega)
  have h2 : (lt_ (m_A σ 53 1) t).toInt ≤ 1000 := by
    unfold lt_
    split
    · rw [i_sub (by omega) (by omega)]; omega
    · decide
  have key : X4_sawAt_j23 t (lt_ (m_A σ 53 1) t) σ = some (pc_ σ n k t) := by
    unfold X4_sawAt_j23 pc_
    rw [X4_whoseBy_l hk hk6, e_ob, X4_inchesOf_l hn hn12 hN hf hl (by omega), e_ob]
  unfold X4_sawAt
  rw [e_in (by decide), cl_1]
  unfold lt_ at key
  split at key
  · rename_i h; rw [if_pos h, e_in (by decide)]; exact key
  · rename_i h; rw [if_neg h]; exact key
theorem upd_pI5 {g : GS} {v i : Nat} {a0 a1 a2 a3 a4 : Int32} (hi : i < 5) : gI (pI (pI (pI (pI (pI g v 0 a0) v 1 a1) v 2 a2) v 3 a3) v 4 a4) v i = if i = 0 then a0 else if i = 1 then a1 else if i = 2 then a2 else if i = 3 then a3 else a4 := by
  simp only [I_pI]
  match i, hi with
  | 0, _ => rfl
  | 1, _ => rfl
  | 2, _ => rfl
  | 3, _ => rfl
  | 4, _ => rfl
theorem goal_l {g : GS} {ρ : Nat → Nat} {a sc v u x sa ra oa r m n k h : Nat} {σ : MS} (hT : TW g ρ a sc v u x sa ra oa r m n k h σ) {t : Nat} (ht : t + 1 ≤ 600) (h1 : gI g sa (t + 1) = m_A σ 61 (t + 1)) (h1' : 0 ≤ (m_A σ 61 (t + 1)).toInt ∧ (m_A σ 61 (t + 1)).toInt ≤ 999) (h2 : gI g sa t = m_A σ 61 t) (h3 : gI g ra t = m_A σ 62 t) :
    ∃ w g' σ', X11_goal u (nI (t + 1)) (pc_ σ n k (nI (t + 1))) g = some (w, g') ∧ X4_shouldBe (nI (t + 1)) σ = some (w, σ') ∧ Fr (fun q => q = v) g g' ∧ gz g' = gz g ∧ Mf [] [57, 58] σ σ' ∧ 0 ≤ w.toInt ∧ w.toInt ≤ 999 := by
  have hT0 := hT
  obtain ⟨⟨⟨a1, a2, a3, a4, a5⟩, ⟨b1, b2, b3, b4⟩, hS5, hSc⟩, ⟨⟨u1, u2, u3⟩, ⟨f0, f1, f2, f3, f7⟩, ⟨⟨c1, c2, c3, c4⟩, ⟨d1, d2, d3, d4⟩, ⟨e1, e2, e3, e4⟩⟩, hne⟩, ⟨⟨n1, n1'⟩, ⟨n2, n2'⟩, n3, n3'⟩, hr, hSt, ⟨hm, hm6⟩, hR⟩ := hT
  obtain ⟨⟨s1, s2, s3, s4, s5⟩, ⟨⟨p1, p2⟩, ⟨p3, p4⟩, p5, p6⟩, ⟨q1, q2, q3⟩, ⟨-, -⟩, w1, w2, w3, w4⟩ := hSc
  have hpt : (nI (t + 1)).toInt = ((t + 1 : Nat) : Int) := i_n (by omega)
  have hsees : ∃ s0, s0 = bd_ (m_A σ 61 (t + 1) + m_I σ 64 * (m_A σ 61 (t + 1) - m_A σ 61 t)) 0 999 ∧ X11_goal u (nI (t + 1)) (pc_ σ n k (nI (t + 1))) g = X11_goal_j50 u (nI (t + 1)) (pc_ σ n k (nI (t + 1))) s0 g := by
    refine ⟨_, rfl, ?_⟩
    unfold X11_goal
    rw [e_wk u1, n2, nI_pred]
    by_cases h0 : m_I σ 64 = 0
    · rw [if_pos h0, f1, e_nn, e_rk (by rw [c1]), e_inN (by rw [c2]; omega) (by rw [c2]; omega), nI_clamp (by omega), h1, h0, Int32.zero_mul, Int32.add_zero, bd_in (by rw [i_le, k_0]; omega) (by rw [i_le, k_999]; omega)]
    · rw [if_neg h0, f1, e_nn, e_rk (by rw [c1]), e_inN (by rw [c2]; omega) (by rw [c2]; omega), e_nn, e_rk (by rw [c1]), e_inN (by rw [c2]; omega) (by rw [c2]; omega), e_nn, e_rk (by rw [c1]), e_inN (by rw [c2]; omega) (by rw [c2]; omega), nI_clamp (by omega), nI_clamp (by omega), h1, h2, X1_kept_l (by decide), e_ob]
  obtain ⟨s0, hs0, hgo⟩ := hsees
  have hs0r := bd_rg (v := m_A σ 61 (t + 1) + m_I σ 64 * (m_A σ 61 (t + 1) - m_A σ 61 t)) (a := 0) (b := 999) (by decide)
  rw [k_0, k_999, ← hs0] at hs0r
  obtain ⟨x1, x2, x3, ⟨y0, y1, y2, y3, y4, y5⟩, -⟩ := hSt
  by_cases hh : m_A σ 53 5 = -1
  · refine ⟨s0, g, σ, ?_, ?_, Fr.rf, rfl, Mf.rf, hs0r⟩
    · rw [hgo]
      unfold X11_goal_j50
      rw [e_wk u1, f0, e_nn, e_wk x1, y4, if_pos hh]
    · unfold X4_shouldBe
      rw [e_inN (by omega) (by omega), e_inN (by omega) (by omega), nI_pred, e_inN (by omega) (by omega), nI_clamp (by omega), nI_clamp (by omega), X4_bounded_l, e_ob, e_in (by decide), cl_5, if_pos hh, ← hs0]
  · obtain ⟨l, xs, l1, l2, l3, l4⟩ := q3
    obtain ⟨r1, r2, r3, r4, r5, r6, r7⟩ := hR
    have hnn : ¬ (m_A σ 53 5).toInt = -1 := fun q => hh (by rw [i_eq, q, k_n1])
    obtain ⟨hd, hd1, hd2, hd3⟩ := i_nat (x := m_A σ 53 5) (by omega)
    have hdh : hd < h := by omega
    obtain ⟨y, hy⟩ := get_ex (xs := xs) (k := hd) (by omega)
    rcases l4 hd y hy with ⟨z, -⟩ | ⟨b, c, kk, z1, z2, z3, z4, z5, z6⟩
    · omega
    have hby : y = b := by omega
    subst hby
    obtain ⟨mk, hmk⟩ : ∃ mk : Int32, mk = if mk_ (m_A σ 53) m (pc_ σ n k (nI (t + 1))) = true then 1 else 0 := ⟨_, rfl⟩
    obtain ⟨g4, hg4⟩ : ∃ g4, g4 = pI (pI (pI (pI g v 0 s0) v 1 (m_A σ 61 t)) v 2 (m_A σ 62 t)) v 3 (nI (t + 1)) := ⟨_, rfl⟩
    obtain ⟨σ4, hσ4⟩ : ∃ σ4, σ4 = s_A (s_A (s_A (s_A σ 57 0 s0) 57 1 (m_A σ 61 t)) 57 2 (m_A σ 62 t)) 57 3 (nI (t + 1)) := ⟨_, rfl⟩
    have hF4 : Fr (fun q => q = v) g g4 := by
      rw [hg4]
      exact (((Fr.pI (W := fun q => q = v) rfl).trans (Fr.pI (W := fun q => q = v) rfl) (fun _ _ k => k)).trans (Fr.pI (W := fun q => q = v) rfl) (fun _ _ k => k)).trans (Fr.pI (W := fun q => q = v) rfl) (fun _ _ k => k)
    have hM4 : Mf [] [57] σ σ4 := by
      rw [hσ4]
      exact (((Mf.sA (by decide)).trans (Mf.sA (LI := []) (LA := [57]) (by decide)) (fun _ k => k) (fun _ k => k)).trans (Mf.sA (LI := []) (LA := [57]) (by decide)) (fun _ k => k) (fun _ k => k)).trans (Mf.sA (LI := []) (LA := [57]) (by decide)) (fun _ k => k) (fun _ k => k)
    have hT4 : TW g4 ρ a sc v u x sa ra oa r m n k h σ4 := hT0.to (hF4.mono (fun _ _ k => Or.inl k)) (hM4.mono (fun _ k => k) (by decide))
    obtain ⟨⟨⟨A1, A2, A3, A4, A5⟩, ⟨B1, B2, B3, B4⟩, hS5', hSc4⟩, ⟨⟨U1, U2, U3⟩, ⟨F0, F1, F2, F3, F7⟩, -, -⟩, -, -, hSt4, -, hR4⟩ := hT4
    have X1k := hSt4.1
    have Y4 := hSt4.2.2.2.1.2.2.2.2.1
    have e53 : m_A σ4 53 = m_A σ 53 := hM4.Af (by decide)
    have epc : pc_ σ4 n k (nI (t + 1)) = pc_ σ n k (nI (t + 1)) := by
      unfold pc_
      rw [hM4.Af (j := 8) (by decide), hM4.Af (j := 9) (by decide), hM4.Af (j := 10) (by decide), hM4.Af (j := 11) (by decide), hM4.I (k := 1) (by decide), hM4.I (k := 59) (by decide), hM4.I (k := 60) (by decide), e53]
    have hpcr : 12 ≤ (pc_ σ n k (nI (t + 1))).toInt ∧ (pc_ σ n k (nI (t + 1))).toInt ≤ 480 := by
      refine ic_rg p2 w1 w3 (by omega) (by omega) ?_
      have q9 := lt_rg (late := m_A σ 53 1) (t := nI (t + 1)) (by omega) (by omega)
      refine ⟨by omega, ?_⟩
      unfold lt_
      split
      · rw [i_sub (by omega) (by omega)]; omega
      · decide
    have hsaw : X4_sawAt (nI (t + 1)) σ4 = some (pc_ σ n k (nI (t + 1))) := by
      rw [← epc]
      refine X4_sawAt_l (by rw [hM4.I (by decide)]; exact p1) p2 (by rw [hM4.I (by decide)]; exact p3) p4 (by rw [hM4.Af (j := 8) (by decide), hM4.Af (j := 9) (by decide)]; exact w1) (by rw [hM4.I (by decide)]; exact w3) (by rw [hM4.I (by decide)]; omega) (by rw [e53]; omega) (by omega)
    have hby4 : X4_isByMark (pc_ σ n k (nI (t + 1))) σ4 = some mk := by
      rw [X4_isByMark_l (m := m) (by rw [hM4.I (by decide)]; exact hm) hm6 (by rw [e53]; exact r7) (by omega), e53, ← hmk]
    have hFL : FL [0, 1, 2, 3, 4] (pI g4 v 4 mk) ρ ff_ y c := by
      have z2' := z2.le (n' := ff_) (by decide)
      have z3' : FL [0, 1, 2, 3, 4] g4 ρ ff_ y c := z2'.to hF4 (fun _ _ k => k) (fun q hq k k' => by rw [k', b3] at k; omega)
      exact z3'.to (W := fun q => q = v) (Fr.pI rfl) (fun _ _ k => k) (fun q hq k k' => by rw [k', b3] at k; omega)
    obtain ⟨w, v1, v2⟩ := ev_l (g := pI g4 v 4 mk) (v := v) (T := m_A (s_A σ4 57 4 mk) 57) hS5' (by rw [K_pI, B1]) (by rw [N_pI, B2]; exact ⟨by decide, by omega⟩) (fun w y hy => by
      have hw : w < 5 := (List.getElem?_eq_some_iff.mp hy).1
      have hyw : y = nI w := by
        match w, hw, hy with
        | 0, _, hy => cases hy; rfl
        | 1, _, hy => cases hy; rfl
        | 2, _, hy => cases hy; rfl
        | 3, _, hy => cases hy; rfl
        | 4, _, hy => cases hy; rfl
      refine ⟨w, by omega, hyw, ?_⟩
      rw [hg4, hσ4, upd_pI5 hw]
      simp only [rA_sA]
      match w, hw with
      | 0, _ => rfl
      | 1, _ => rfl
      | 2, _ => rfl
      | 3, _ => rfl
      | 4, _ => rfl) ff_ y c hFL
    have hM5 : Mf [] [57] σ (s_A σ4 57 4 mk) := hM4.trans (Mf.sA (LI := []) (LA := [57]) (by decide)) (fun _ k => k) (fun _ k => k)
    obtain ⟨σ5, k1, k2⟩ := reck_l v2 (σ := s_A σ4 57 4 mk) (k := kk) (by rw [hM5.Af (by decide)]; exact z4) z5 z6 (fun _ _ => rfl)
    have hb := bd_rg (v := w) (a := 0) (b := 999) (by decide)
    rw [k_0, k_999] at hb
    have hj : X11_goal_j142 u v 4 mk g4 = some (bd_ w 0 999, pI g4 v 4 mk) := by
      have hL4 : LiP g4 ρ 0 l xs := l2.to (W := fun q => q = v) hF4 Ag.rf (fun q hq k k' => by rw [k', b3] at k; omega)
      have hL5 : LiP (pI g4 v 4 mk) ρ 0 l xs := hL4.to (W := fun q => q = v) (Fr.pI rfl) Ag.rf (fun q hq k k' => by rw [k', b3] at k; omega)
      have hscne : ¬ sc = v := by intro q; rw [q, b1] at s1; omega
      have hxne : ¬ x = v := by intro q; rw [q, b1] at x1; omega
      have l1' : gR g4 sc 2 = l + 1 := by rw [hF4.R s3 hscne, l1]
      have hy4 : gI (pI g4 v 4 mk) x 4 = nI hd := by rw [I_pI, if_neg (by rintro ⟨q, -⟩; exact hxne q), Y4, e53, hd1]
      have hsc4 : gK g4 sc = 2 := by rw [hF4.K s3, s1]
      have hl4 : gK (pI g4 v 4 mk) l = 12 := hL5.K
      have hkf := hFL.kind.1
      unfold X11_goal_j142
      rw [e_wk B1, e_i4 (by rw [B2]; omega) (by rw [B2]; omega), cl_4, e_wk (by exact U1), R_pI, F7, e_nn, e_wk (by exact A1), A4, e_nn, e_wk (by exact hsc4), l1', e_nn, F0, e_nn, e_wk (by exact X1k), e_wk (by exact hl4), hy4, J2_get_l hL5 hy, e_ob, hkf, e_gd, e_nn, e_wk (by exact A1), A5, e_nn, v1, e_ob, X1_kept_l (by decide), e_ob]
    refine ⟨bd_ w 0 999, pI g4 v 4 mk, σ5, ?_, ?_, hF4.trans (Fr.pI (W := fun q => q = v) rfl) (fun _ _ k => k), ?_, (hM5.mono (LA := [57, 58]) (fun _ k => k) (by decide)).trans k2 (fun _ k => k) (by decide), hb⟩
    · rw [hgo]
      have hgv : ∀ (gg : GS) (q k : Nat) (w : Int32), gI (pI gg v k w) sa q = gI gg sa q ∨ sa = v := fun gg q k w => by
        by_cases e : sa = v
        · exact Or.inr e
        · exact Or.inl (by rw [I_pI, if_neg (by rintro ⟨q, -⟩; exact e q)])
      have hsav : ¬ sa = v := by intro q; rw [q, b3] at c3; omega
      have hrav : ¬ ra = v := by intro q; rw [q, b3] at d3; omega
      have t1 : t < 601 := by omega
      have hmk4 : X3_isByMark x (pc_ σ n k (nI (t + 1))) g4 = some mk := by rw [X3_isByMark_l hSt4, e53, ← hmk]
      unfold X11_goal_j50
      rw [e_wk u1, f0, e_nn, e_wk x1, y4, if_neg hh, f7, e_nn, e_wk a1, a5, e_nn, e_wk b1, e_i0 (by rw [b2]; omega) (by rw [b2]; omega), cl_0]
      simp only [R_pI, K_pI, N_pI, e_wk, e_rk, e_nn, e_inN, e_i1, e_i2, e_i3, f7, f0, f1, f2, a1, a5, b1, b2, c1, c2, d1, d2, u1, x1, t1, nI_pred, I_pI, hsav, hrav, false_and, if_false, cl_1, cl_2, cl_3, nI_clamp (show t < 2 ^ 31 by omega), h2, h3, show (1 : Nat) < 5 from by omega, show (2 : Nat) < 5 from by omega, show (3 : Nat) < 5 from by omega, show (5 : Nat) < 2 ^ 31 from by omega, show (601 : Nat) < 2 ^ 31 from by omega]
      rw [← hg4]
      simp only [hmk4, e_ob]
      rcases (show mk = 0 ∨ mk = 1 by rw [hmk]; split <;> simp) with q | q
      · rw [if_pos q, show X11_goal_j142 u v 4 0 g4 = X11_goal_j142 u v 4 mk g4 by rw [q]]; exact hj
      · rw [if_neg (by rw [q]; decide), show X11_goal_j142 u v 4 1 g4 = X11_goal_j142 u v 4 mk g4 by rw [q]]; exact hj
    · have hj4 : X4_shouldBe_j111 4 mk σ4 = some (bd_ w 0 999, σ5) := by
        unfold X4_shouldBe_j111
        rw [e_i4 (by omega) (by omega), cl_4, e_i5 (by omega) (by omega), cl_5]
        show in_ (m_A σ4 53 5) 4 (cb_ (X4_reckons (m_A σ4 12 (m_A σ4 53 5).toNatClampNeg) (s_A σ4 57 4 mk)) _) = _
        rw [e53, hM4.Af (j := 12) (by decide), hd1, e_inN (by omega) (by omega), nI_clamp (by omega), z3, k1, e_cb, X4_bounded_l, e_ob]
      unfold X4_shouldBe
      rw [e_inN (by omega) (by omega), e_inN (by omega) (by omega), nI_pred, e_inN (by omega) (by omega), nI_clamp (by omega), nI_clamp (by omega), X4_bounded_l, e_ob, e_in (by decide), cl_5, if_neg hh, ← hs0]
      have t1 : t < 601 := by omega
      simp only [e_i0, e_i1, e_i2, e_i3, e_inN, t1, cl_0, cl_1, cl_2, cl_3, ← hσ4, hsaw, hby4, e_ob, show (0 : Nat) < 8 from by omega, show (1 : Nat) < 8 from by omega, show (2 : Nat) < 8 from by omega, show (3 : Nat) < 8 from by omega, show (8 : Nat) < 2 ^ 31 from by omega, show (601 : Nat) < 2 ^ 31 from by omega]
      rcases (show mk = 0 ∨ mk = 1 by rw [hmk]; split <;> simp) with q | q
      · rw [if_pos q, show X4_shouldBe_j111 4 0 σ4 = X4_shouldBe_j111 4 mk σ4 by rw [q]]; exact hj4
      · rw [if_neg (by rw [q]; decide), show X4_shouldBe_j111 4 1 σ4 = X4_shouldBe_j111 4 mk σ4 by rw [q]]; exact hj4
    · rw [z_pI, hg4]; rfl
