/-! LAWS: marks: the places (own work) -/
set_option maxRecDepth 100000
theorem adds_lp {σ : MS} {c : Nat} (p : Int32) (h69 : m_I σ 69 = nI c) (hc : c ≤ 13) : lp_ (fun a : Int32 × Int32 => X4_addsSpot_b4 p σ a.1 a.2) fu_ (0, 0) = some (if hs_ (m_A σ 71) c p = true then 1 else 0) := by
  rcases Nat.eq_zero_or_pos c with h0 | h0
  · have hf : fu_ = (fu_ - 1) + 1 := by unfold fu_; omega
    rw [hf]
    subst h0
    refine lp_end ?_ _
    show X4_addsSpot_b4 p σ 0 0 = _
    unfold X4_addsSpot_b4
    rw [h69, if_pos (by decide)]
    rfl
  obtain ⟨k1, k2, k3⟩ := for_l (enc := fun (c : Int32) t => (c, nI t)) (fun a : Int32 × Int32 => X4_addsSpot_b4 p σ a.1 a.2) (c - 1) (fun t c => if c = 0 then (if m_A σ 71 t = p then 1 else 0) else 1) (fun c => c)
    (fun t c => (c = 0 ∨ c = 1) ∧ (c = 1 ↔ ∃ i, i < t ∧ m_A σ 71 i = p))
    (fun t c ht ⟨p1, p2⟩ => by
      rcases p1 with rfl | rfl
      · rw [if_pos rfl]
        have hno : ∀ i, i < t → ¬ m_A σ 71 i = p := fun i hi k => absurd (p2.mpr ⟨i, hi, k⟩) (by decide)
        by_cases q : m_A σ 71 t = p
        · rw [if_pos q]
          exact ⟨Or.inr rfl, fun _ => ⟨t, by omega, q⟩, fun _ => rfl⟩
        · rw [if_neg q]
          refine ⟨Or.inl rfl, fun k => absurd k (by decide), ?_⟩
          rintro ⟨i, hi, k⟩
          by_cases e : i = t
          · rw [e] at k; exact absurd k q
          · exact absurd k (hno i (by omega))
      · rw [if_neg nn01]
        obtain ⟨i, hi, k⟩ := p2.mp rfl
        exact ⟨Or.inr rfl, fun _ => ⟨i, by omega, k⟩, fun _ => rfl⟩)
    (fun t b ht p12 => by
      clear p12
      show X4_addsSpot_b4 p σ b (nI t) = _
      unfold X4_addsSpot_b4 X4_addsSpot_j26 X4_addsSpot_j31
      rw [h69, if_neg (nI_ge (show t < c by omega) (by omega)), nI_1, nI_clamp (show t < 2 ^ 31 by omega), e_inN (show t < 13 by omega) (by omega)]
      by_cases q : b = 0
      · rw [if_pos q, if_pos q]
        by_cases q2 : m_A σ 71 t = p
        · rw [if_pos q2, if_pos q2]
        · rw [if_neg q2, if_neg q2]
      · rw [if_neg q, if_neg q])
    (fun b _ => by
      show X4_addsSpot_b4 p σ b (nI (c - 1 + 1)) = _
      unfold X4_addsSpot_b4
      rw [h69, if_pos (nI_le (by omega) (by omega))]) 0 ⟨Or.inl rfl, fun k => absurd k (by decide), fun ⟨i, hi, _⟩ => absurd hi (Nat.not_lt_zero _)⟩ (n := fu_) (by unfold fu_; omega)
  rw [show (lp_ (fun a : Int32 × Int32 => X4_addsSpot_b4 p σ a.1 a.2) fu_ (0, 0)) = _ from k1]
  rw [show c - 1 + 1 = c by omega] at k2 k3 ⊢
  rcases k2 with q | q
  · rw [q, hs_f (fun i hi k => absurd (k3.mpr ⟨i, hi, k⟩) (by rw [q]; decide))]
    rfl
  · rw [q, if_pos (hs_t.mpr (k3.mp q))]
theorem adds_l {σ : MS} {c : Nat} (p : Int32) (h69 : m_I σ 69 = nI c) (hc : c ≤ 12) : X4_addsSpot p σ = some (if hs_ (m_A σ 71) c p = true then σ else s_I (s_A σ 71 c p) 69 (nI (c + 1))) := by
  unfold X4_addsSpot
  rw [adds_lp p h69 (by omega), e_ob]
  cases hs_ (m_A σ 71) c p with
  | true => rw [if_pos rfl, if_neg nn01, if_pos rfl]
  | false => rw [if_neg (show ¬ (false = true) by decide), if_pos rfl, if_neg (show ¬ (false = true) by decide), h69, e_inN (by omega) (by omega), nI_clamp (by omega), nI_1]
/-- the places found so far: the list P and the model's row 71 -/
def PlcP (g : GS) (ρ : Nat → Nat) (P : Nat) (ps : List Nat) (σ : MS) : Prop := LiP g ρ 11 P ps ∧ IP g ρ ps (m_A σ 71) ∧ m_I σ 69 = nI ps.length ∧ ∀ i, i < ps.length → 12 ≤ (m_A σ 71 i).toInt ∧ (m_A σ 71 i).toInt ≤ 480
/-- one more place -/
theorem PlcP.add {g : GS} {ρ : Nat → Nat} {P : Nat} {ps : List Nat} {σ : MS} (h : PlcP g ρ P ps σ) (hl : ps.length ≤ 12) (hE : EnvP g ρ) {w : Int32} (hw : 12 ≤ w.toInt ∧ w.toInt ≤ 480) :
    ∃ z g1 g2 dc1 ds1 dc2 ds2 ρ2, J19_valueOf w g = some ((z, g1), dc1, ds1) ∧ gK g1 P = 12 ∧ J2_add P z g1 = some ((1, g2), dc2, ds2) ∧ Fr (fun q => ρ q = 11) g g2 ∧ Ag g ρ ρ2 ∧ PlcP g2 ρ2 P (ps ++ [z]) (s_I (s_A σ 71 ps.length w) 69 (nI (ps.length + 1))) ∧ dc1 ≤ 1 ∧ ds1 ≤ 1 ∧ dc2 ≤ 1 ∧ ds2 ≤ 40 := by
  obtain ⟨b2, b5, b3, b6⟩ := h
  obtain ⟨z, g1, dc1, ds1, c1, c2, c3, c4, c5, c6, c7, c8, c9⟩ := J19_valueOf_l hE.2.1 w
  obtain ⟨e, he⟩ := b2
  have he1 : LiPe g1 (nr ρ g 0) 11 P e ps := he.to c2 nr_ag (fun _ _ _ k => k)
  obtain ⟨g2, e', dc2, ds2, d1, d2, d3, d4, d5, d6, d7, d8, d9⟩ := J2_add_l he1 (by rw [c2.S]; obtain ⟨⟨d, hd, -⟩, -⟩ := hE.1; exact ⟨d, hd⟩) (by omega) c5 (by rw [c3]; rfl)
  have hF : Fr (fun q => ρ q = 11) g g2 := (c2.mono (fun _ _ k => k.elim)).trans (he1.fr d3) (fun q hq k => by rw [nr_lt hq] at k; exact k)
  have hA : Ag g ρ (nr (nr ρ g 0) g1 11) := nr_ag.trans nr_ag c2.z
  refine ⟨z, g1, g2, dc1, ds1, dc2, ds2, nr (nr ρ g 0) g1 11, c1, he1.1, d1, hF, hA, ⟨⟨e', d2⟩, fun i u hu => ?_, by rw [len_snoc]; rfl, fun i hi => ?_⟩, c7, c8, d4, by omega⟩
  · show _ ∧ _ ∧ _ ∧ gI g2 u 0 = m_A (s_A σ 71 ps.length w) 71 i
    rw [rA_sA]
    rcases get_snoc hu with ⟨q1, q2⟩ | ⟨q1, q2⟩
    · obtain ⟨f1, f2, f3, f4⟩ := b5 i u q2
      rw [if_neg (by rintro ⟨-, k⟩; exact Nat.ne_of_lt q1 k), hF.K f3, hA u f3, hF.I f3 (by rw [f2]; decide)]
      exact ⟨f1, f2, hF.lt f3, f4⟩
    · subst q1 q2
      have hz5 : ¬ nr ρ g 0 u = 11 := by rw [c4]; decide
      rw [if_pos ⟨rfl, rfl⟩, d3.K c5, nr_lt c5, (he1.fr d3).I c5 hz5]
      exact ⟨c3, c4, d3.lt c5, c6⟩
  · show 12 ≤ (m_A (s_A σ 71 ps.length w) 71 i).toInt ∧ (m_A (s_A σ 71 ps.length w) 71 i).toInt ≤ 480
    rw [rA_sA]
    rw [len_snoc] at hi
    by_cases q : i = ps.length
    · rw [if_pos ⟨rfl, q⟩]; exact hw
    · rw [if_neg (by rintro ⟨-, k⟩; exact q k)]; exact b6 i (Nat.lt_of_le_of_ne (Nat.le_of_lt_succ hi) q)
theorem PlcP.to {W : Nat → Prop} {g g' : GS} {ρ ρ' : Nat → Nat} {P : Nat} {ps : List Nat} {σ σ' : MS} (h : PlcP g ρ P ps σ) (hF : Fr W g g') (hA : Ag g ρ ρ') (hW : ∀ q, q < gz g → ρ q = 11 ∨ ρ q = 0 → ¬ W q) (e69 : m_I σ' 69 = m_I σ 69) (e71 : m_A σ' 71 = m_A σ 71) : PlcP g' ρ' P ps σ' := by
  obtain ⟨h1, h2, h3, h4⟩ := h
  exact ⟨h1.to hF hA hW, by rw [e71]; exact h2.to hF hA (fun q hq k => hW q hq (Or.inr k)), by rw [e69, h3], by rw [e71]; exact h4⟩
/-- places -/
theorem places_l {g : GS} {ρ : Nat → Nat} {sc n k h : Nat} {σ : MS} (x1 : Int32) (hS : ScP g ρ sc n k h σ) (hE : EnvP g ρ) :
    ∃ g' ρ' dc ds σ1 σ2 ps, X2_places sc g = some ((gz g, g'), dc, ds) ∧ X4_addsSpot (m_I σ 1) (s_I σ 69 0) = some σ1 ∧ lp_ (fun a : Int32 × MS => X4_marks_b36 x1 a.1 a.2) fu_ (0, σ1) = some σ2 ∧ Fr (fun q => ρ q = 11) g g' ∧ Ag g ρ ρ' ∧ PlcP g' ρ' (gz g) ps σ2 ∧ ps.length ≤ 13 ∧ Mf [69] [71] σ σ2 ∧ dc ≤ 100 ∧ ds ≤ 1200 ∧ gz g < gz g' := by
  obtain ⟨⟨s1, s2, s3, s4, s5⟩, ⟨⟨p1, p2⟩, -, -⟩, ⟨⟨l, xs, t1, t2, t3, t4⟩, -, -⟩, -, ⟨w1, -, w3, -⟩⟩ := hS
  obtain ⟨g1, e, a1, a2, a3, a4, a5, a6⟩ := J2_init_l hE.1 11
  have hA1 : Ag g ρ (nr ρ g 11) := nr_ag
  have hE1 : EnvP g1 (nr ρ g 11) := hE.to a3 hA1 (fun _ _ _ k => k)
  have hP0 : PlcP g1 (nr ρ g 11) (gz g) [] (s_I σ 69 0) := ⟨⟨e, a2⟩, fun i y hy => (by cases hy), rfl, fun i hi => absurd hi (Nat.not_lt_zero _)⟩
  obtain ⟨z, g2, g3, dc1, ds1, dc2, ds2, ρ3, b1, b2, b3, b4, b5, b6, b7, b8, b9, b10⟩ := hP0.add (Nat.zero_le _) hE1 (w := m_I σ 1) w3
  have F3 : Fr (fun q => ρ q = 11) g g3 := (a3.mono (fun _ _ k => k.elim)).trans b4 (fun q hq k => by rw [nr_lt hq] at k; exact k)
  have hA3 : Ag g ρ ρ3 := hA1.trans b5 a3.z
  have hm1 : X4_addsSpot (m_I σ 1) (s_I σ 69 0) = some (s_I (s_A (s_I σ 69 0) 71 0 (m_I σ 1)) 69 (nI (0 + 1))) := adds_l (c := 0) _ rfl (by omega)
  have hM1 : Mf [69] [71] σ (s_I (s_A (s_I σ 69 0) 71 0 (m_I σ 1)) 69 (nI (0 + 1))) := ((Mf.sI (LI := [69]) (LA := [71]) (by decide)).trans (Mf.sA (LI := []) (LA := [71]) (by decide)) (fun _ k => by cases k) (fun _ k => k)).trans (Mf.sI (LI := [69]) (LA := []) (by decide)) (fun _ k => k) (fun _ k => by cases k)
  obtain ⟨σ1, hσ1⟩ : ∃ σ1, σ1 = s_I (s_A (s_I σ 69 0) 71 0 (m_I σ 1)) 69 (nI (0 + 1)) := ⟨_, rfl⟩
  rw [← hσ1] at hm1 hM1
  have hP3 : PlcP g3 ρ3 (gz g) [z] σ1 := by rw [hσ1]; exact b6
  have hzz : gz g < gz g3 := Nat.lt_of_lt_of_le (by rw [a4]; exact Nat.lt_succ_self _) b4.z
  obtain ⟨e1, e2, dc, ds, m1, m2, m3, m4, ρ', ps, m5, m6, m7, m8, m9⟩ := la2_t (body := fun a1 : Int32 × GS => X2_places_b24 sc (gz g) a1.1 a1.2) (body' := fun a : Int32 × MS => X4_marks_b36 x1 a.1 a.2)
    (I := fun j a1 b c d => ∃ t ρ1 ps, a1.1 = nI t ∧ b.1 = nI t ∧ t ≤ n ∧ j = n - t ∧ c ≤ 3 * t ∧ d ≤ 42 * t ∧ Fr (fun q => ρ q = 11) g a1.2 ∧ Ag g ρ ρ1 ∧ PlcP a1.2 ρ1 (gz g) ps b.2 ∧ ps.length ≤ t + 1 ∧ Mf [69] [71] σ b.2)
    (Q := fun e e' c d => c ≤ 36 ∧ d ≤ 504 ∧ ∃ ρ1 ps, Fr (fun q => ρ q = 11) g e ∧ Ag g ρ ρ1 ∧ PlcP e ρ1 (gz g) ps e' ∧ ps.length ≤ 13 ∧ Mf [69] [71] σ e')
    (by
      rintro j ⟨i1, g4⟩ ⟨i2, σ4⟩ c d ⟨t, ρ1, ps, f1, f2, f3, f4, f5, f6, f7, f8, f9, f10, f11⟩
      simp only at f1 f2 f7 f9 f11 ⊢
      subst f1 f2
      have ks : gK g4 sc = 2 := by rw [f7.K s3, s1]
      have rs : gR g4 sc 0 = l + 1 := by rw [f7.R s3 (by rw [s2]; decide), t1]
      have L4 : LiP g4 ρ1 0 l xs := t2.to f7 f8 (fun q _ k k2 => by rw [k2] at k; omega)
      unfold X2_places_b24 X4_marks_b36
      rw [e_wk ks, rs, e_nn, e_wk L4.K, J2_size_l L4, e_ob, t3, f11.I (by decide), p1]
      by_cases ht : t < n
      · have hlt : ¬ nI n ≤ nI t := nI_ge ht (by omega)
        obtain ⟨y, hy⟩ := get_ex (xs := xs) (k := t) (by omega)
        obtain ⟨q1, q2, q3, q4, q5, q6⟩ := t4 t y hy
        have ky : gK g4 y = 100 := by rw [f7.K q6, q1]
        have ny : gN g4 y = 2 := by rw [f7.N q6, q2]
        have iy : gI g4 y 0 = m_A σ 8 t := by rw [f7.I q6 (by rw [q3]; decide), q4]
        have hE4 : EnvP g4 ρ1 := hE.to f7 f8 (fun q _ k k2 => by rw [k] at k2; cases k2)
        obtain ⟨z1, g5, dc5, ds5, v1, v2, v3, v4, v5, v6, v7, v8, v9⟩ := J19_valueOf_l hE4.2.1 (m_A σ 8 t)
        have P5 : PlcP g5 (nr ρ1 g4 0) (gz g) ps σ4 := f9.to v2 nr_ag (fun _ _ _ k => k) rfl rfl
        have F5 : Fr (fun q => ρ q = 11) g g5 := f7.trans v2 (fun _ _ k => k.elim)
        have A5 : Ag g ρ (nr ρ1 g4 0) := f8.trans nr_ag f7.z
        have e8 : m_A σ4 8 t = m_A σ 8 t := f11.A (by decide) t
        rw [if_neg hlt, if_neg hlt, e_nn, e_wk L4.K, J2_get_l L4 hy, e_ob, e_rk (by rw [ky]), ny, e_i0 (by decide) (by decide), cl_0, iy, v1, e_ca, e_wk P5.1.K, J2_contains_l P5.1 P5.2.1 v3 v6, e_ob, e_inN (by omega) (by omega), nI_clamp (by omega), e8, adds_l _ f9.2.2.1 (by omega), e_ob]
        unfold X2_places_j89
        cases hb : hs_ (m_A σ4 71) ps.length (m_A σ 8 t) with
        | true =>
          rw [if_pos rfl, if_pos rfl, if_neg nn01, nI_1]
          exact Or.inl ⟨_, _, dc5, ds5, j - 1, by omega, by rw [e_b0], rfl, t + 1, _, ps, rfl, rfl, by omega, by omega, by omega, by omega, F5, A5, P5, by omega, f11⟩
        | false =>
          rw [if_neg (show ¬ (false = true) by decide), if_neg (show ¬ (false = true) by decide), if_pos rfl]
          have hE5 : EnvP g5 (nr ρ1 g4 0) := hE4.to v2 nr_ag (fun _ _ _ k => k)
          obtain ⟨z2, g6, g7, dc6, ds6, dc7, ds7, ρ7, u1, u2, u3, u4, u5, u6, u7, u8, u9, u10⟩ := P5.add (by omega) hE5 (w := m_A σ 8 t) (w1 t ht).1
          have L5 : LiP g5 (nr ρ1 g4 0) 0 l xs := L4.to v2 nr_ag (fun _ _ _ k => k)
          have F7 : Fr (fun q => ρ q = 11) g g7 := F5.trans u4 (fun q hq k => by rw [A5 q hq] at k; exact k)
          rw [e_wk (by rw [F5.K s3, s1]), F5.R s3 (by rw [s2]; decide), t1, e_nn, e_wk L5.K, J2_get_l L5 hy, e_ob, e_rk (by rw [F5.K q6, q1]), F5.N q6, q2, e_i0 (by decide) (by decide), F5.I q6 (by rw [q3]; decide), q4, u1, e_ca, e_wk u2, u3, e_ca, nI_1, e_b0, e_bp, e_bp]
          refine Or.inl ⟨_, _, _, _, j - 1, by omega, rfl, rfl, t + 1, ρ7, ps ++ [z2], rfl, rfl, by omega, by omega, by omega, by omega, F7, A5.trans u5 F5.z, u6, by rw [len_snoc]; omega, ?_⟩
          exact (f11.trans (Mf.sA (LI := []) (LA := [71]) (by decide)) (fun _ k => by cases k) (fun _ k => k)).trans (Mf.sI (LI := [69]) (LA := []) (by decide)) (fun _ k => k) (fun _ k => by cases k)
      · have hlt : nI n ≤ nI t := nI_le (by omega) (by omega)
        rw [if_pos hlt, if_pos hlt]
        exact Or.inr ⟨_, _, 0, 0, rfl, rfl, by omega, by omega, ρ1, ps, f7, f8, f9, by omega, f11⟩)
    fu_ n (0, g3) (0, σ1) 0 0 ⟨0, ρ3, [z], rfl, rfl, Nat.zero_le _, rfl, by omega, by omega, F3, hA3, hP3, by simp, hM1⟩ (by unfold fu_; omega)
  have hz0 : gz g < gz e1 := by
    have hPK := m7.1.lt
    exact hPK
  refine ⟨e1, ρ', dc + dc2 + dc1 + 1, ds + ds2 + ds1 + 3, σ1, e2, ps, ?_, hm1, m2, m5, m6, m7, m8, m9, by omega, by omega, hz0⟩
  unfold X2_places
  rw [e_al, a1, e_ob, e_wk (by rw [a3.K s3, s1]), a3.I s3 (fun k => k), s4, b1, e_ca, e_wk b2, b3, e_ca, m1, e_oa, e_b0, e_bp, e_bp, e_bp]
