/-! LAWS: hole, lag, wrist, eye, behind, hand (own work) -/
set_option maxRecDepth 100000
theorem rel_act {a o sc v n k h x m T l : Nat} {g g1 g2 : GS} {ρ ρ1 ρ2 : Nat → Nat} {σ σ' : MS} {xs : List Nat} (hp : RelP a o sc v n k h x m T g ρ σ) (hF : Fr (fun q => ρ q = 3) g g1) (hA : Ag g ρ ρ1) (h7 : gR g1 a 7 = l + 1) (hl : LiP g1 ρ1 3 l xs) (hF2 : Fr (fun q => ρ1 q = 2) g1 g2) (hA2 : Ag g1 ρ1 ρ2) (hS : SetP g2 ρ2 2 x m (m_A σ' 53)) (hR : RowOK (m_A σ' 53) m h) (hM : Mf [0, 56] [53, 55] σ σ') (hc : m_I σ' 56 = nI xs.length) (hlen : xs.length ≤ 40) (hAc : AcR g1 ρ1 xs m h (m_A σ' 53) (m_A σ' 55)) : RelP a o sc v n k h x m T g2 ρ2 σ' := by
  have ha := hp.1.1.1
  obtain ⟨n1, n2, ⟨n3, n3'⟩, n4⟩ := hp.2.1
  have F : Fr (fun q => ρ q = 3 ∨ ρ q = 2) g g2 := (hF.mono (fun _ _ k => Or.inl k)).trans hF2 (fun q hq k => by rw [hA q hq] at k; exact Or.inr k)
  have hAA : Ag g ρ ρ2 := hA.trans hA2 hF.z
  have ha3 : ¬ (ρ a = 3 ∨ ρ a = 2) := by rw [ha.2.1]; omega
  have ha2 : ¬ ρ1 a = 2 := by rw [hA a ha.2.2.1, ha.2.1]; omega
  obtain ⟨B, N, Z, Ta, Re, Ac, Fi, Bo, Ke, Im, En, Ou⟩ := hp.all (LR := []) (LJ := []) (D := [3, 2]) F hAA (fun r hr q _ k e => by
    rw [k] at e
    rcases e with e | e
    · exact hr (by simp [e])
    · exact hr (by simp [e])) (fun i _ => F.R ha.2.2.1 ha3 i) (fun i _ => F.I ha.2.2.1 ha3 i) hM (by decide)
  refine ⟨B (by decide), ⟨by rw [F.R ha.2.2.1 ha3, n1], hS, ⟨by rw [hM.I (by decide)]; exact n3, n3'⟩, hR⟩, Z (by decide), Ta (by decide), Re (by decide), ⟨l, xs, ?_, ?_, hc, hlen, ?_⟩, Fi (by decide), Bo (by decide), Ke (by decide), Im (by decide), En, Ou⟩
  · rw [hF2.R (hF.lt ha.2.2.1) ha2, h7]
  · exact hl.to hF2 hA2 (fun q _ k k2 => by rw [k2] at k; omega)
  · exact hAc.to hF2 hA2 (fun q _ k k2 => by rw [k2] at k; omega)
theorem act_l {a o sc v n k h x m T : Nat} {g : GS} {ρ : Nat → Nat} {σ : MS} (hp : RelP a o sc v n k h x m T g ρ σ) {f k' : Nat} {w : Int32} (hk : (f = 0 ∧ k' = 0) ∨ (f = 1 ∧ k' = 1) ∨ (f = 2 ∧ k' = 2) ∨ (f = 3 ∧ k' = 3) ∨ (f = 4 ∧ k' = 5) ∨ (f = 5 ∧ k' = 4)) (hrow : RowOK (fun i => if i = k' then w else m_A σ 53 i) m h) :
    ∃ g1 ρ1 dc ds σ', X1_keep a g = some (((), g1), dc, ds) ∧ gK g1 a = 1 ∧ gR g1 a 1 = x + 1 ∧ gK g1 x = 3 ∧ gI g1 x f = m_A σ 53 k' ∧ X4_becomes (nI k') w σ = some (m_A σ 53 k', σ') ∧ RelP a o sc v n k h x m T (pI g1 x f w) ρ1 σ' ∧ m_I σ' 0 = m_I σ 0 ∧ dc ≤ 9 ∧ ds ≤ 190 := by
  have ha := hp.1.1.1
  obtain ⟨n1, n2, ⟨n3, n3'⟩, n4⟩ := hp.2.1
  obtain ⟨g1, ρ1, dc, ds, l, xs, c, a1, a2, a3, a4, a5, a6, a7, a8, a9, a10, a11⟩ := keep_l hp
  obtain ⟨σ', b1, b2, b3, b4, b5⟩ := becomes_l w a8 a9 (show k' < 12 by omega)
  have ha3 : ¬ ρ a = 3 := by rw [ha.2.1]; decide
  have hx3 : ¬ ρ x = 3 := by rw [n2.2.1]; decide
  have n2' : SetP g1 ρ1 2 x m (m_A σ 53) := n2.to a2 a3 (fun q _ k k2 => by rw [k2] at k; omega)
  have hrow' : m_A σ' 53 = fun i => if i = k' then w else m_A σ 53 i := funext b4
  have hx2 : ρ1 x = 2 := n2'.2.1
  refine ⟨g1, ρ1, dc, ds, σ', a1, by rw [a2.K ha.2.2.1, ha.1], by rw [a2.R ha.2.2.1 ha3, n1], n2'.1, ?_, b1, ?_, by rw [b2.I (by decide)], a6, a7⟩
  · obtain ⟨-, -, -, ⟨q0, q1, q2, q3, q4, q5⟩, -⟩ := n2'
    rcases hk with ⟨rfl, rfl⟩ | ⟨rfl, rfl⟩ | ⟨rfl, rfl⟩ | ⟨rfl, rfl⟩ | ⟨rfl, rfl⟩ | ⟨rfl, rfl⟩ <;> assumption
  · refine rel_act hp a2 a3 a4 a5 (Fr.pI (W := fun q => ρ1 q = 2) hx2) Ag.rf ?_ ?_ ((Mf.rf (LI := [0, 56]) (LA := [53, 55])).trans b2 (by decide) (by decide)) (by rw [b3, a10]) (by rw [a10]; split <;> omega) (a11 k' w _ _ (by omega) b4 b5)
    · rw [hrow']; exact n2'.put hk
    · rw [hrow']; exact hrow
theorem op_hole {a o : Nat} {g : GS} {σ : MS} (hr : Rel a o g σ) (w : Int32) : OpI a o (X1_hole a w g) (X4_hole w σ) := by
  obtain ⟨ρ, sc, v, n, k, h, x, m, T, hp⟩ := hr
  have hp0 := hp.m (s0_eq (c := 0))
  have ha := hp.1.1.1
  unfold X1_hole X4_hole
  rw [X1_in_l, X4_within_l, e_ob, e_ob]
  cases hw : wi_ w 1 60 with
  | false =>
    obtain ⟨rf, r1, r2, r3, c4, c5, c6⟩ := hp0.refu 1 (by omega) (-1)
    have c4' : X4_refuses 1 (-1) (s_I σ 0 0) = _ := c4
    have c5' : X1_refuse a 1 g = _ := c5
    refine ⟨(-1), _, 0, 0, _, ?_, ?_, ⟨_, _, _, _, _, _, _, _, _, c6⟩, by omega, by omega⟩
    · show (wk_ g a 1 <| cb_ (X1_refuse a 1 g) _) = _
      rw [e_wk ha.1, c5', e_cb]
    · rw [if_neg (show ¬ (false = true) by decide), if_pos rfl, c4', e_cb]
  | true =>
    obtain ⟨w1, w2⟩ := wi_t.mp hw
    have k1 : ((1 : Int32)).toInt = 1 := by decide
    have k2 : ((60 : Int32)).toInt = 60 := by decide
    rw [k1] at w1
    rw [k2] at w2
    obtain ⟨g1, ρ1, dc, ds, σ', b1, b2, b3, b4, b5, b6, b7, b8, b9, b10⟩ := act_l hp0 (f := 0) (k' := 0) (w := w) (by omega) (hp0.2.1.2.2.2.put (by omega))
    have b6' : X4_becomes 0 w (s_I σ 0 0) = _ := b6
    refine ⟨m_A (s_I σ 0 0) 53 0, _, dc, ds, σ', ?_, ?_, ⟨_, _, _, _, _, _, _, _, _, b7⟩, by omega, by omega⟩
    · show (wk_ g a 1 <| ca_ (X1_keep a g) _) = _
      rw [e_wk ha.1, b1, e_ca, e_wk b2, b3, e_nn, e_wk b4, e_nn, e_wk b4, b5, e_b0]
    · rw [if_pos rfl, if_neg nn01, b6', e_cb]
theorem op_lag {a o : Nat} {g : GS} {σ : MS} (hr : Rel a o g σ) (w : Int32) : OpI a o (X1_lag a w g) (X4_lag w σ) := by
  obtain ⟨ρ, sc, v, n, k, h, x, m, T, hp⟩ := hr
  have hp0 := hp.m (s0_eq (c := 0))
  have ha := hp.1.1.1
  unfold X1_lag X4_lag
  rw [X1_in_l, X4_within_l, e_ob, e_ob]
  cases hw : wi_ w 0 24 with
  | false =>
    obtain ⟨rf, r1, r2, r3, c4, c5, c6⟩ := hp0.refu 1 (by omega) (-1)
    have c4' : X4_refuses 1 (-1) (s_I σ 0 0) = _ := c4
    have c5' : X1_refuse a 1 g = _ := c5
    refine ⟨(-1), _, 0, 0, _, ?_, ?_, ⟨_, _, _, _, _, _, _, _, _, c6⟩, by omega, by omega⟩
    · show (wk_ g a 1 <| cb_ (X1_refuse a 1 g) _) = _
      rw [e_wk ha.1, c5', e_cb]
    · rw [if_neg (show ¬ (false = true) by decide), if_pos rfl, c4', e_cb]
  | true =>
    obtain ⟨w1, w2⟩ := wi_t.mp hw
    have k1 : ((0 : Int32)).toInt = 0 := by decide
    have k2 : ((24 : Int32)).toInt = 24 := by decide
    rw [k1] at w1
    rw [k2] at w2
    obtain ⟨g1, ρ1, dc, ds, σ', b1, b2, b3, b4, b5, b6, b7, b8, b9, b10⟩ := act_l hp0 (f := 1) (k' := 1) (w := w) (by omega) (hp0.2.1.2.2.2.put (by omega))
    have b6' : X4_becomes 1 w (s_I σ 0 0) = _ := b6
    refine ⟨m_A (s_I σ 0 0) 53 1, _, dc, ds, σ', ?_, ?_, ⟨_, _, _, _, _, _, _, _, _, b7⟩, by omega, by omega⟩
    · show (wk_ g a 1 <| ca_ (X1_keep a g) _) = _
      rw [e_wk ha.1, b1, e_ca, e_wk b2, b3, e_nn, e_wk b4, e_nn, e_wk b4, b5, e_b0]
    · rw [if_pos rfl, if_neg nn01, b6', e_cb]
theorem op_wrist {a o : Nat} {g : GS} {σ : MS} (hr : Rel a o g σ) (w : Int32) : OpI a o (X1_wrist a w g) (X4_wrist w σ) := by
  obtain ⟨ρ, sc, v, n, k, h, x, m, T, hp⟩ := hr
  have hp0 := hp.m (s0_eq (c := 0))
  have ha := hp.1.1.1
  unfold X1_wrist X4_wrist
  rw [X1_in_l, X4_within_l, e_ob, e_ob]
  cases hw : wi_ w 1 90 with
  | false =>
    obtain ⟨rf, r1, r2, r3, c4, c5, c6⟩ := hp0.refu 1 (by omega) (-1)
    have c4' : X4_refuses 1 (-1) (s_I σ 0 0) = _ := c4
    have c5' : X1_refuse a 1 g = _ := c5
    refine ⟨(-1), _, 0, 0, _, ?_, ?_, ⟨_, _, _, _, _, _, _, _, _, c6⟩, by omega, by omega⟩
    · show (wk_ g a 1 <| cb_ (X1_refuse a 1 g) _) = _
      rw [e_wk ha.1, c5', e_cb]
    · rw [if_neg (show ¬ (false = true) by decide), if_pos rfl, c4', e_cb]
  | true =>
    obtain ⟨w1, w2⟩ := wi_t.mp hw
    have k1 : ((1 : Int32)).toInt = 1 := by decide
    have k2 : ((90 : Int32)).toInt = 90 := by decide
    rw [k1] at w1
    rw [k2] at w2
    obtain ⟨g1, ρ1, dc, ds, σ', b1, b2, b3, b4, b5, b6, b7, b8, b9, b10⟩ := act_l hp0 (f := 2) (k' := 2) (w := w) (by omega) (hp0.2.1.2.2.2.put (by omega))
    have b6' : X4_becomes 2 w (s_I σ 0 0) = _ := b6
    refine ⟨m_A (s_I σ 0 0) 53 2, _, dc, ds, σ', ?_, ?_, ⟨_, _, _, _, _, _, _, _, _, b7⟩, by omega, by omega⟩
    · show (wk_ g a 1 <| ca_ (X1_keep a g) _) = _
      rw [e_wk ha.1, b1, e_ca, e_wk b2, b3, e_nn, e_wk b4, e_nn, e_wk b4, b5, e_b0]
    · rw [if_pos rfl, if_neg nn01, b6', e_cb]
theorem op_eye {a o : Nat} {g : GS} {σ : MS} (hr : Rel a o g σ) (w : Int32) : OpI a o (X1_eye a w g) (X4_eye w σ) := by
  obtain ⟨ρ, sc, v, n, k, h, x, m, T, hp⟩ := hr
  have hp0 := hp.m (s0_eq (c := 0))
  have ha := hp.1.1.1
  unfold X1_eye X4_eye
  rw [X1_in_l, X4_within_l, e_ob, e_ob]
  cases hw : wi_ w (-30) 30 with
  | false =>
    obtain ⟨rf, r1, r2, r3, c4, c5, c6⟩ := hp0.refu 1 (by omega) (-99)
    have c4' : X4_refuses 1 (-99) (s_I σ 0 0) = _ := c4
    have c5' : X1_refuse a 1 g = _ := c5
    refine ⟨(-99), _, 0, 0, _, ?_, ?_, ⟨_, _, _, _, _, _, _, _, _, c6⟩, by omega, by omega⟩
    · show (wk_ g a 1 <| nn_ (gR g a 6) fun b18 => _) = _
      rw [e_wk ha.1, r1, e_nn, e_rk (by rw [r2]), r3, e_i1 (by decide) (by decide), e_wk r2, e_i1 (by decide) (by decide), cl_1]
    · rw [if_neg (show ¬ (false = true) by decide), if_pos rfl, c4', e_cb]
  | true =>
    obtain ⟨w1, w2⟩ := wi_t.mp hw
    have k1 : (((-30) : Int32)).toInt = (-30) := by decide
    have k2 : ((30 : Int32)).toInt = 30 := by decide
    rw [k1] at w1
    rw [k2] at w2
    obtain ⟨g1, ρ1, dc, ds, σ', b1, b2, b3, b4, b5, b6, b7, b8, b9, b10⟩ := act_l hp0 (f := 3) (k' := 3) (w := w) (by omega) (hp0.2.1.2.2.2.put (by omega))
    have b6' : X4_becomes 3 w (s_I σ 0 0) = _ := b6
    refine ⟨m_A (s_I σ 0 0) 53 3, _, dc, ds, σ', ?_, ?_, ⟨_, _, _, _, _, _, _, _, _, b7⟩, by omega, by omega⟩
    · show (wk_ g a 1 <| ca_ (X1_keep a g) _) = _
      rw [e_wk ha.1, b1, e_ca, e_wk b2, b3, e_nn, e_wk b4, e_nn, e_wk b4, b5, e_b0]
    · rw [if_pos rfl, if_neg nn01, b6', e_cb]
theorem op_behind {a o : Nat} {g : GS} {σ : MS} (hr : Rel a o g σ) (w : Int32) : OpI a o (X1_behind a w g) (X4_behind w σ) := by
  obtain ⟨ρ, sc, v, n, k, h, x, m, T, hp⟩ := hr
  have hp0 := hp.m (s0_eq (c := 0))
  have ha := hp.1.1.1
  unfold X1_behind X4_behind
  rw [X1_in_l, X4_within_l, e_ob, e_ob]
  cases hw : wi_ w 0 200 with
  | false =>
    obtain ⟨rf, r1, r2, r3, c4, c5, c6⟩ := hp0.refu 1 (by omega) (-1)
    have c4' : X4_refuses 1 (-1) (s_I σ 0 0) = _ := c4
    have c5' : X1_refuse a 1 g = _ := c5
    refine ⟨(-1), _, 0, 0, _, ?_, ?_, ⟨_, _, _, _, _, _, _, _, _, c6⟩, by omega, by omega⟩
    · show (wk_ g a 1 <| cb_ (X1_refuse a 1 g) _) = _
      rw [e_wk ha.1, c5', e_cb]
    · rw [if_neg (show ¬ (false = true) by decide), if_pos rfl, c4', e_cb]
  | true =>
    obtain ⟨w1, w2⟩ := wi_t.mp hw
    have k1 : ((0 : Int32)).toInt = 0 := by decide
    have k2 : ((200 : Int32)).toInt = 200 := by decide
    rw [k1] at w1
    rw [k2] at w2
    obtain ⟨g1, ρ1, dc, ds, σ', b1, b2, b3, b4, b5, b6, b7, b8, b9, b10⟩ := act_l hp0 (f := 5) (k' := 4) (w := w) (by omega) (hp0.2.1.2.2.2.put (by omega))
    have b6' : X4_becomes 4 w (s_I σ 0 0) = _ := b6
    refine ⟨m_A (s_I σ 0 0) 53 4, _, dc, ds, σ', ?_, ?_, ⟨_, _, _, _, _, _, _, _, _, b7⟩, by omega, by omega⟩
    · show (wk_ g a 1 <| ca_ (X1_keep a g) _) = _
      rw [e_wk ha.1, b1, e_ca, e_wk b2, b3, e_nn, e_wk b4, e_nn, e_wk b4, b5, e_b0]
    · rw [if_pos rfl, if_neg nn01, b6', e_cb]
theorem op_hand {a o : Nat} {g : GS} {σ : MS} (hr : Rel a o g σ) (w : Int32) : OpI a o (X1_hand a w g) (X4_hand w σ) := by
  obtain ⟨ρ, sc, v, n, k, h, x, m, T, hp⟩ := hr
  have hp0 := hp.m (s0_eq (c := 0))
  have ha := hp.1.1.1
  have hC := hp0.1.1
  have h5 : m_I (s_I σ 0 0) 5 = nI h := hC.2.2.2.2.1.2.2.1
  have h4 : h ≤ 4 := hC.2.2.2.2.1.2.2.2
  obtain ⟨l2, xs2, q21, q22, q23, -⟩ := hC.2.2.2.2.2.1.2.2
  have hks : gK g sc = 2 := hC.2.2.2.1.1
  have hm1 : (nI h - 1).toInt = (h : Int) - 1 := by
    have q1 : (nI h).toInt = (h : Int) := i_n (by omega)
    rw [i_sub (by rw [q1, k_1]; omega) (by rw [q1, k_1]; omega), q1, k_1]
  obtain ⟨rf, r1, r2, r3, c4, c5, c6⟩ := hp0.refu 1 (by omega) 0
  have c4' : X4_refuses 1 0 (s_I σ 0 0) = _ := c4
  have hbad : X4_hand_j18 (s_I σ 0 0) = some (0, s_A (s_I σ 0 0) 18 1 (m_A (s_I σ 0 0) 18 1 + 1)) := by
    unfold X4_hand_j18
    rw [c4', e_cb, if_pos (by decide)]
  unfold X1_hand X4_hand
  rw [e_wk ha.1, ha.2.2.2.1, e_nn, e_wk hks, q21, e_nn, e_wk q22.K, J2_size_l q22, e_ob, q23, X1_in_l, e_ob]
  cases hw : wi_ w (-1) (nI h - 1) with
  | false =>
    refine ⟨0, _, 0, 0, _, ?_, ?_, ⟨_, _, _, _, _, _, _, _, _, c6⟩, by omega, by omega⟩
    · rw [if_neg (show ¬ (false = true) by decide), if_pos rfl, r1, e_nn, e_rk (by rw [r2]), r3, e_i1 (by decide) (by decide), e_wk r2, e_i1 (by decide) (by decide), cl_1]
    · by_cases h1 : w < -1
      · rw [if_pos h1, hbad]
      · have h2 : ¬ w < m_I σ 5 := fun q => by
          have hh : m_I σ 5 = nI h := h5
          rw [hh, i_lt, i_n (by omega)] at q
          rw [i_lt, k_n1] at h1
          have := (wi_t (x := w) (lo := -1) (hi := nI h - 1)).mpr ⟨by rw [k_n1]; omega, by rw [hm1]; omega⟩
          rw [hw] at this
          cases this
        rw [if_neg h1, if_neg h2, hbad]
  | true =>
    obtain ⟨w1, w2⟩ := wi_t.mp hw
    rw [k_n1] at w1
    rw [hm1] at w2
    obtain ⟨g1, ρ1, dc, ds, σ', b1, b2, b3, b4, b5, b6, b7, b8, b9, b10⟩ := act_l hp0 (f := 4) (k' := 5) (w := w) (by omega) (hp0.2.1.2.2.2.put (by omega))
    have b6' : X4_becomes 5 w (s_I σ 0 0) = _ := b6
    have h1 : ¬ w < -1 := by rw [i_lt, k_n1]; omega
    have h2 : w < m_I σ 5 := by
      have hh : m_I σ 5 = nI h := h5
      rw [hh, i_lt, i_n (by omega)]
      omega
    refine ⟨1, _, dc, ds, σ', ?_, ?_, ⟨_, _, _, _, _, _, _, _, _, b7⟩, by omega, by omega⟩
    · rw [if_pos rfl, if_neg nn01, b1, e_ca, e_wk b2, b3, e_nn, e_wk b4, e_b0]
    · rw [if_neg h1, if_pos h2, b6', e_cb]
