/-! LAWS: forget, feed (own work) -/
set_option maxRecDepth 100000
def OpV (a o : Nat) (X : Option ((Unit × GS) × Nat × Nat)) (M : Option MS) : Prop := ∃ g' dc ds σ', X = some (((), g'), dc, ds) ∧ M = some σ' ∧ Rel a o g' σ' ∧ dc ≤ 18000 ∧ ds ≤ 80000
def OpN (a o : Nat) (X : Option (Int32 × GS)) (M : Option (Int32 × MS)) : Prop := ∃ r g' σ', X = some (r, g') ∧ M = some (r, σ') ∧ Rel a o g' σ'
theorem op_forget {a o : Nat} {g : GS} {σ : MS} (hr : Rel a o g σ) : OpV a o (X1_forget a g) (X4_forget σ) := by
  obtain ⟨ρ, sc, v, n, k, h, y, m, T, hp⟩ := hr
  have ha := hp.1.1.1
  have hE := hp.2.2.2.2.2.2.2.2.2.2.1
  obtain ⟨g1, e1, a1, a2, a3, a4, a5, a6⟩ := J2_init_l hE.1 4
  obtain ⟨g2, hg2⟩ : ∃ g2, g2 = pR g1 a 8 (gz g + 1) := ⟨_, rfl⟩
  have F2 : Fr (fun q => q = a) g1 g2 := by rw [hg2]; exact Fr.pR rfl
  have z2 : gz g2 = gz g + 1 := by rw [hg2]; exact a4
  have F12 : Fr (fun q => q = a) g g2 := (a3.mono (fun _ _ k => k.elim)).trans F2 (fun _ _ k => k)
  have hA2 : Ag g ρ (nr ρ g 4) := nr_ag
  obtain ⟨g3, e3, b1, b2, b3, b4, b5, b6⟩ := J2_init_l (hE.1.to F12 hA2) 5
  obtain ⟨g4, hg4⟩ : ∃ g4, g4 = pR g3 a 9 (gz g2 + 1) := ⟨_, rfl⟩
  have F4 : Fr (fun q => q = a) g3 g4 := by rw [hg4]; exact Fr.pR rfl
  have F24 : Fr (fun q => q = a) g2 g4 := (b3.mono (fun _ _ k => k.elim)).trans F4 (fun _ _ k => k)
  have F : Fr (fun q => q = a) g g4 := F12.trans F24 (fun _ _ k => k)
  have hA : Ag g ρ (nr (nr ρ g 4) g2 5) := hA2.trans nr_ag F12.z
  have k1 : gK g1 a = 1 := by rw [a3.K ha.2.2.1, ha.1]
  have l2 : a < gz g2 := F12.lt ha.2.2.1
  have k3 : gK g3 a = 1 := by rw [b3.K l2, hg2, K_pR, k1]
  have hM : Mf [0, 74, 76] [] σ (s_I (s_I (s_I σ 0 0) 74 0) 76 0) := ((Mf.sI (LI := [0, 74, 76]) (LA := []) (by decide)).trans (Mf.sI (LI := [74]) (LA := []) (by decide)) (by decide) (by decide)).trans (Mf.sI (LI := [76]) (LA := []) (by decide)) (by decide) (by decide)
  have hR3 : ∀ i, i ≠ 8 → gR g3 a i = gR g a i := fun i hi => by rw [b3.R l2 (fun k => k), hg2, R_pR, if_neg (by rintro ⟨-, q⟩; exact hi q), a3.R ha.2.2.1 (fun k => k)]
  have hR : ∀ i, i ∉ [8, 9] → gR g4 a i = gR g a i := fun i hi => by rw [hg4, R_pR, if_neg (by rintro ⟨-, q⟩; exact hi (by simp [q])), hR3 i (fun q => hi (by simp [q]))]
  have hI : ∀ i, i ∉ [] → gI g4 a i = gI g a i := fun i _ => by rw [hg4, I_pR, b3.I l2 (fun k => k), hg2, I_pR, a3.I ha.2.2.1 (fun k => k)]
  obtain ⟨B, N, Z, Ta, Re, Ac, Fi, Bo, Ke, Im, En, Ou⟩ := hp.all (LR := [8, 9]) (LJ := []) (D := [1]) F hA (fun r hr q _ k e => by rw [e, ha.2.1] at k; exact hr (by simp [k])) hR hI hM (by decide)
  have ha' : ∀ q, nr ρ g 4 q = 4 ∨ nr ρ g 4 q = 0 → ¬ q = a := fun q k e => by rw [e, nr_lt ha.2.2.1, ha.2.1] at k; omega
  have ha'' : ∀ q, nr (nr ρ g 4) g2 5 q = 5 ∨ nr (nr ρ g 4) g2 5 q = 0 → ¬ q = a := fun q k e => by rw [e, nr_lt l2, nr_lt ha.2.2.1, ha.2.1] at k; omega
  have L1 : LiPe g4 (nr (nr ρ g 4) g2 5) 4 (gz g) e1 [] := (a2.to F2 Ag.rf (fun q _ k => ha' q k)).to F24 nr_ag (fun q _ k => ha' q k)
  have L2 : LiPe g4 (nr (nr ρ g 4) g2 5) 5 (gz g2) e3 [] := b2.to F4 Ag.rf (fun q _ k => ha'' q k)
  refine ⟨g4, 2, 6, _, ?_, rfl, ⟨_, _, _, _, _, _, _, _, _, B (by decide), N (by decide), Z (by decide), Ta (by decide), Re (by decide), Ac (by decide), ⟨0, ⟨gz g, [], ?_, ⟨e1, L1⟩, rfl, fun i u hu => (by cases hu)⟩, rfl, Nat.zero_le _, fun j hj => absurd hj (Nat.not_lt_zero _)⟩, ⟨gz g2, [], ?_, ⟨e3, L2⟩, rfl, Nat.zero_le _, fun i u hu => (by cases hu), fun j hj => absurd hj (Nat.not_lt_zero _)⟩, Ke (by decide), Im (by decide), En, Ou⟩, by omega, by omega⟩
  · unfold X1_forget
    rw [e_al, a1, e_ob, e_wk k1, ← hg2, e_al, b1, e_ob, e_wk k3, ← hg4]
    rfl
  · rw [hg4, R_pR, if_neg (by rintro ⟨-, q⟩; cases q), b3.R l2 (fun k => k), hg2, R_pR, if_pos ⟨rfl, rfl⟩]
  · rw [hg4, R_pR, if_pos ⟨rfl, rfl⟩]
/-! feed -/
theorem by_lo (y : Int32) : (y &&& 255).toInt8.toInt32 = y.toInt8.toInt32 := by
  have : (y &&& 255).toInt8 = y.toInt8 := by
    rw [Int32.toInt8_and]
    have e : (255 : Int32).toInt8 = -1 := by decide
    rw [e, Int8.and_neg_one]
  rw [this]
theorem by_id (y : Int32) : y.toInt8.toInt32.toInt8.toInt32 = y.toInt8.toInt32 := by
  rw [Int8.toInt8_toInt32]
theorem by_rg (y : Int32) : 0 ≤ (y &&& 255).toInt ∧ (y &&& 255).toInt ≤ 255 := by
  obtain ⟨j, j1, j2⟩ := pk_andE y (m := 255) 8 (by decide)
  have j3 : j < 256 := j1
  rw [j2, i_n (by omega)]
  omega
theorem sh4 : ∀ r : Fin 4, (24 - 8 * nI r.val) = nI (24 - 8 * r.val) := by decide
theorem sh4' : ∀ r : Fin 4, ¬ nI (24 - 8 * r.val) < 0 ∧ nI (24 - 8 * r.val) + (-8) = 24 - 8 * nI (r.val + 1) := by decide
def by_ (x : Int32) (r : Nat) : Int32 := (x >>> (nI (24 - 8 * r) &&& 31)) &&& 255
theorem lays_l {σ : MS} {t : Nat} (x : Int32) (ht : m_I σ 15 = nI t) (h : t + 4 ≤ 700) : ∃ σ', X4_lays x σ = some σ' ∧ Mf [15] [14] σ σ' ∧ m_I σ' 15 = nI (t + 4) ∧ ∀ i, m_A σ' 14 i = if t ≤ i ∧ i < t + 4 then by_ x (i - t) else m_A σ 14 i := by
  obtain ⟨k1, k2⟩ := for_l (enc := fun (c : MS) r => ((24 : Int32) - 8 * nI r, c)) (fun a : Int32 × MS => X4_lays_b3 x a.1 a.2) 3 (fun r c => s_I (s_A c 14 (t + r) (by_ x r)) 15 (nI (t + (r + 1)))) (fun c => c)
    (fun r c => Mf [15] [14] σ c ∧ m_I c 15 = nI (t + r) ∧ ∀ i, m_A c 14 i = if t ≤ i ∧ i < t + r then by_ x (i - t) else m_A σ 14 i)
    (fun r c hr ⟨p1, p2, p3⟩ => ⟨(p1.trans (Mf.sA (LI := []) (LA := [14]) (by decide)) (fun _ k => by cases k) (by decide)).trans (Mf.sI (LI := [15]) (LA := []) (by decide)) (by decide) (fun _ k => by cases k), rfl, fun i => by
      rw [rA_sI, rA_sA]
      by_cases q : i = t + r
      · rw [if_pos ⟨rfl, q⟩, if_pos (by omega), show i - t = r by omega]
      · rw [if_neg (by rintro ⟨-, k⟩; exact q k), p3]
        by_cases q2 : t ≤ i ∧ i < t + r
        · rw [if_pos q2, if_pos (by omega)]
        · rw [if_neg q2, if_neg (by omega)]⟩)
    (fun r c hr ⟨p1, p2, p3⟩ => by
      show X4_lays_b3 x (24 - 8 * nI r) c = _
      have e1 := sh4 ⟨r, by omega⟩
      have e2 := sh4' ⟨r, by omega⟩
      simp only at e1 e2
      unfold X4_lays_b3
      rw [e1, if_neg e2.1, p2, e_inN (by omega) (by omega), nI_clamp (by omega), nI_1, e2.2]
      rfl)
    (fun c _ => by
      show X4_lays_b3 x (24 - 8 * nI 4) c = _
      unfold X4_lays_b3
      rw [if_pos (by decide)]) σ ⟨Mf.rf, by rw [ht]; rfl, fun i => by rw [if_neg (by omega)]⟩ (n := fu_) (by unfold fu_; omega)
  refine ⟨_, ?_, k2⟩
  unfold X4_lays
  rw [show (lp_ (fun a : Int32 × MS => X4_lays_b3 x a.1 a.2) fu_ (24, σ)) = _ from k1, e_ob]
theorem shj : ∀ j : Fin 20, ((24 : Int32) - (8 * (nI j.val - nI j.val / 4 * 4))) = nI (24 - 8 * (j.val % 4)) := by decide +kernel
def fx_ (x1 x2 x3 x4 x5 : Int32) (q : Nat) : Int32 := if q = 0 then x1 else if q = 1 then x2 else if q = 2 then x3 else if q = 3 then x4 else x5
theorem op_feed {a o : Nat} {g : GS} {σ : MS} (hr : Rel a o g σ) (x1 x2 x3 x4 x5 : Int32) : OpN a o (X1_feed a x1 x2 x3 x4 x5 g) (X4_feed x1 x2 x3 x4 x5 σ) := by
  obtain ⟨ρ, sc, v, n, k, h, y, m, T, hp⟩ := hr
  have hp0 := hp.m (s0_eq (c := 0))
  have ha := hp.1.1.1
  obtain ⟨⟨tp, b1, b2, b3, b4, b5, b6⟩, ⟨t, t1, t2, t3⟩, b7⟩ := hp.2.2.2.1
  have e20 : nI t + 20 = nI (t + 20) := nI_add t 20
  unfold X1_feed X4_feed
  rw [e_wk ha.1, t2, t3, e20]
  by_cases hle : t + 20 ≤ 700
  · have h1 : nI (t + 20) ≤ 700 := nI_le (b := 700) hle (by omega)
    rw [if_pos h1, if_pos h1]
    have hne : ¬ a = tp := by intro q; have := ha.1; rw [q, b2] at this; omega
    -- the model
    obtain ⟨σ1, c1, m1, i1, r1⟩ := lays_l (σ := s_I σ 0 0) (t := t) x1 t3 (by omega)
    obtain ⟨σ2, c2, m2, i2, r2⟩ := lays_l x2 i1 (by omega)
    obtain ⟨σ3, c3, m3, i3, r3⟩ := lays_l x3 i2 (by omega)
    obtain ⟨σ4, c4, m4, i4, r4⟩ := lays_l x4 i3 (by omega)
    obtain ⟨σ5, c5, m5, i5, r5⟩ := lays_l x5 i4 (by omega)
    have hM : Mf [0, 15] [14] σ σ5 := ((((((Mf.sI (LI := [0, 15]) (LA := [14]) (by decide)).trans m1 (by decide) (by decide)).trans m2 (by decide) (by decide)).trans m3 (by decide) (by decide)).trans m4 (by decide) (by decide)).trans m5 (by decide) (by decide))
    have hrow : ∀ i, m_A σ5 14 i = if t ≤ i ∧ i < t + 20 then by_ (fx_ x1 x2 x3 x4 x5 ((i - t) / 4)) ((i - t) % 4) else m_A σ 14 i := by
      intro i
      rw [r5, r4, r3, r2, r1]
      unfold fx_
      by_cases q : t ≤ i ∧ i < t + 20
      · rw [if_pos q]
        obtain ⟨d, rfl⟩ : ∃ d, i = t + d := ⟨i - t, by omega⟩
        rw [show t + d - t = d by omega, show t + d - (t + 4) = d - 4 by omega, show t + d - (t + 4 + 4) = d - 8 by omega, show t + d - (t + 4 + 4 + 4) = d - 12 by omega, show t + d - (t + 4 + 4 + 4 + 4) = d - 16 by omega]
        by_cases q4 : 16 ≤ d
        · rw [if_pos (by omega), if_neg (by omega), if_neg (by omega), if_neg (by omega), if_neg (by omega), show d % 4 = d - 16 by omega]
        · rw [if_neg (by omega)]
          by_cases q3 : 12 ≤ d
          · rw [if_pos (by omega), if_neg (by omega), if_neg (by omega), if_neg (by omega), if_pos (by omega), show d % 4 = d - 12 by omega]
          · rw [if_neg (by omega)]
            by_cases q2 : 8 ≤ d
            · rw [if_pos (by omega), if_neg (by omega), if_neg (by omega), if_pos (by omega), show d % 4 = d - 8 by omega]
            · rw [if_neg (by omega)]
              by_cases q1 : 4 ≤ d
              · rw [if_pos (by omega), if_neg (by omega), if_pos (by omega), show d % 4 = d - 4 by omega]
              · rw [if_neg (by omega), if_pos (by omega), if_pos (by omega), show d % 4 = d by omega]
      · rw [if_neg q, if_neg (by omega), if_neg (by omega), if_neg (by omega), if_neg (by omega), if_neg (by omega)]
        rfl
    -- the component
    obtain ⟨k1, k2⟩ := for_l (enc := fun (c : GS) j => (nI j, c)) (fun a1 : Int32 × GS => X1_feed_b18 a x1 x2 x3 x4 x5 a1.1 a1.2) 19 (fun j c => pI c tp (t + j) (by_ (fx_ x1 x2 x3 x4 x5 (j / 4)) (j % 4)).toInt8.toInt32) (fun c => c)
      (fun j c => Fr (fun q => q = tp) g c ∧ gz c = gz g ∧ ∀ i, gI c tp i = if t ≤ i ∧ i < t + j then (by_ (fx_ x1 x2 x3 x4 x5 ((i - t) / 4)) ((i - t) % 4)).toInt8.toInt32 else gI g tp i)
      (fun j c hj ⟨p1, p2, p3⟩ => ⟨p1.trans (Fr.pI (W := fun q => q = tp) rfl) (fun _ _ k => k), p2, fun i => by
        rw [I_pI]
        by_cases q : i = t + j
        · rw [if_pos ⟨rfl, q⟩, if_pos (by omega), show i - t = j by omega]
        · rw [if_neg (by rintro ⟨-, k⟩; exact q k), p3]
          by_cases q2 : t ≤ i ∧ i < t + j
          · rw [if_pos q2, if_pos (by omega)]
          · rw [if_neg q2, if_neg (by omega)]⟩)
      (fun j c hj ⟨p1, p2, p3⟩ => by
        show X1_feed_b18 a x1 x2 x3 x4 x5 (nI j) c = _
        have ka : gK c a = 1 := by rw [p1.K ha.2.2.1, ha.1]
        have ra : gR c a 3 = tp + 1 := by rw [p1.R ha.2.2.1 hne, b1]
        have kt : gK c tp = 101 := by rw [p1.K b5, b2]
        have nt : gN c tp = 700 := by rw [p1.N b5, b3]
        have ia : gI c a 4 = nI t := by rw [p1.I ha.2.2.1 hne, t2]
        have hs := shj ⟨j, by omega⟩
        simp only at hs
        have key : ∀ w, X1_feed_j71 a x1 x2 x3 x4 x5 (nI j) w c = some (.inl (nI (j + 1), pI c tp (t + j) (by_ w (j % 4)).toInt8.toInt32)) := by
          intro w
          unfold X1_feed_j71 by_
          rw [e_wk ka, ra, e_nn, e_dv (by decide), e_wk kt, ia, nI_add, nt, e_inN (by omega) (by omega), nI_clamp (by omega), e_nm, hs, by_id, by_lo, nI_1]
        have h20 : ¬ (20 : Int32) ≤ nI j := nI_ge (b := 20) (by omega) (by omega)
        unfold X1_feed_b18
        rw [if_neg h20]
        unfold fx_
        by_cases q1 : 4 ≤ j
        · rw [if_pos (show (4 : Int32) ≤ nI j from nI_le (a := 4) q1 (by omega))]
          by_cases q2 : 8 ≤ j
          · rw [if_pos (show (8 : Int32) ≤ nI j from nI_le (a := 8) q2 (by omega))]
            by_cases q3 : 12 ≤ j
            · rw [if_pos (show (12 : Int32) ≤ nI j from nI_le (a := 12) q3 (by omega))]
              by_cases q4 : 16 ≤ j
              · rw [if_pos (show (16 : Int32) ≤ nI j from nI_le (a := 16) q4 (by omega)), if_neg (by omega), if_neg (by omega), if_neg (by omega), if_neg (by omega), key]
              · rw [if_neg (show ¬ (16 : Int32) ≤ nI j from nI_ge (b := 16) (a := j) (by omega) (by omega)), if_neg (by omega), if_neg (by omega), if_neg (by omega), if_pos (by omega), key]
            · rw [if_neg (show ¬ (12 : Int32) ≤ nI j from nI_ge (b := 12) (a := j) (by omega) (by omega)), if_neg (by omega), if_neg (by omega), if_pos (by omega), key]
          · rw [if_neg (show ¬ (8 : Int32) ≤ nI j from nI_ge (b := 8) (a := j) (by omega) (by omega)), if_neg (by omega), if_pos (by omega), key]
        · rw [if_neg (show ¬ (4 : Int32) ≤ nI j from nI_ge (b := 4) (a := j) (by omega) (by omega)), if_pos (by omega), key])
      (fun c _ => by
        show X1_feed_b18 a x1 x2 x3 x4 x5 (nI 20) c = _
        unfold X1_feed_b18
        rw [if_pos (by decide)]) g ⟨Fr.rf, rfl, fun i => by rw [if_neg (by omega)]⟩ (n := fu_) (by unfold fu_; omega)
    obtain ⟨g1, hg1⟩ : ∃ g1, g1 = it_ (fun j c => pI c tp (t + j) (by_ (fx_ x1 x2 x3 x4 x5 (j / 4)) (j % 4)).toInt8.toInt32) g (19 + 1) := ⟨_, rfl⟩
    rw [← hg1] at k1 k2
    obtain ⟨p1, p2, p3⟩ := k2
    have ka : gK g1 a = 1 := by rw [p1.K ha.2.2.1, ha.1]
    have ia : gI g1 a 4 = nI t := by rw [p1.I ha.2.2.1 hne, t2]
    have F : Fr (fun q => q = tp ∨ q = a) g (pI g1 a 4 (nI (t + 20))) := (p1.mono (fun _ _ k => Or.inl k)).trans (Fr.pI (W := fun q => q = a) rfl) (fun _ _ k => Or.inr k)
    obtain ⟨B, N, Z, Ta, Re, Ac, Fi, Bo, Ke, Im, En, Ou⟩ := hp.all (LR := []) (LJ := [4]) (D := [1, 7]) F Ag.rf (fun r hr q _ k e => by
      rcases e with e | e
      · rw [e, b4] at k; exact hr (by simp [k])
      · rw [e, ha.2.1] at k; exact hr (by simp [k])) (fun i _ => p1.R ha.2.2.1 hne i) (fun i hi => by rw [I_pI, if_neg (by rintro ⟨-, q⟩; exact hi (by simp [q])), p1.I ha.2.2.1 hne]) hM (by decide)
    refine ⟨nI (t + 20), pI g1 a 4 (nI (t + 20)), σ5, ?_, ?_, ⟨_, _, _, _, _, _, _, _, _, B (by decide), N (by decide), Z (by decide), ⟨⟨tp, ?_, ?_, ?_, b4, ?_, fun i hi => ?_⟩, ⟨t + 20, hle, ?_, ?_⟩, ?_⟩, Re (by decide), Ac (by decide), Fi (by decide), Bo (by decide), Ke (by decide), Im (by decide), En, Ou⟩⟩
    · rw [show (lp_ (fun a1 : Int32 × GS => X1_feed_b18 a x1 x2 x3 x4 x5 a1.1 a1.2) fu_ (0, g)) = _ from k1, e_ob, e_wk ka, ia, e20, I_pI, if_pos ⟨rfl, rfl⟩]
    · rw [c1, e_ob, c2, e_ob, c3, e_ob, c4, e_ob, c5, e_ob, i5]
    · rw [R_pI, p1.R ha.2.2.1 hne, b1]
    · rw [K_pI, p1.K b5, b2]
    · rw [N_pI, p1.N b5, b3]
    · exact F.lt b5
    · rw [I_pI, if_neg (by rintro ⟨q, -⟩; exact hne q.symm), p3, hrow]
      by_cases q : t ≤ i ∧ i < t + 20
      · rw [if_pos q, if_pos q]
        exact ⟨rfl, by_rg _⟩
      · rw [if_neg (show ¬ (t ≤ i ∧ i < t + (19 + 1)) from q), if_neg q]
        exact b6 i hi
    · rw [I_pI, if_pos ⟨rfl, rfl⟩]
    · rw [i5]
    · rw [I_pI, if_neg (by rintro ⟨-, q⟩; cases q), p1.I ha.2.2.1 hne, hM.I (by decide), b7]
  · have h1 : ¬ nI (t + 20) ≤ 700 := nI_ge (a := 700) (by omega) (by omega)
    rw [if_neg h1, if_neg h1]
    exact ⟨-1, g, s_I σ 0 0, rfl, rfl, ⟨_, _, _, _, _, _, _, _, _, hp0⟩⟩
