/-! LAWS: image, restore (own work) -/
set_option maxRecDepth 100000
theorem copies_l {σ : MS} {a1 a2 L : Nat} (h1 : m_ok a1 = true) (h2 : m_ok a2 = true) (l1 : m_len a1 = L) (l2 : m_len a2 = L) (hL0 : 0 < L) (hL : L ≤ 5000) (hne : a1 ≠ a2) : ∃ σ', X4_copies a1 a2 σ = some σ' ∧ Mf [] [a2] σ σ' ∧ ∀ i, m_A σ' a2 i = if i < L then m_A σ a1 i else m_A σ a2 i := by
  obtain ⟨k1, k2, k3⟩ := for_l (enc := fun (c : MS) t => (nI t, c)) (fun a : Int32 × MS => X4_copies_b2 a1 a2 a.1 a.2) (L - 1) (fun t c => s_A c a2 t (m_A c a1 t)) (fun c => c)
    (fun t c => Mf [] [a2] σ c ∧ ∀ i, m_A c a2 i = if i < t then m_A σ a1 i else m_A σ a2 i)
    (fun t c ht ⟨p1, p2⟩ => ⟨p1.trans (Mf.sA (LI := []) (LA := [a2]) (by simp)) (fun _ k => k) (fun _ k => k), fun i => by
      rw [rA_sA]
      by_cases q : i = t
      · rw [if_pos ⟨rfl, q⟩, if_pos (by omega), p1.A (by simpa using hne), q]
      · rw [if_neg (by rintro ⟨-, k⟩; exact q k), p2]
        by_cases q2 : i < t
        · rw [if_pos q2, if_pos (by omega)]
        · rw [if_neg q2, if_neg (by omega)]⟩)
    (fun t c ht _ => by
      show X4_copies_b2 a1 a2 (nI t) c = _
      unfold X4_copies_b2
      rw [h1, h2, e_gd, e_gd, e_gd, l1, l2, show Int32.ofNat L = nI L from rfl, if_neg (nI_ge (show t < L by omega) (by omega)), e_inN (show t < L by omega) (by omega), e_inN (show t < L by omega) (by omega), nI_1, nI_clamp (by omega)])
    (fun c _ => by
      show X4_copies_b2 a1 a2 (nI (L - 1 + 1)) c = _
      unfold X4_copies_b2
      rw [h1, e_gd, l1, show Int32.ofNat L = nI L from rfl, if_pos (nI_le (by omega) (by omega))]) σ ⟨Mf.rf, fun i => by rw [if_neg (by omega)]⟩ (n := fu_) (by unfold fu_; omega)
  rw [show L - 1 + 1 = L by omega] at k1 k2 k3
  refine ⟨_, ?_, k2, k3⟩
  unfold X4_copies
  rw [show (lp_ (fun a : Int32 × MS => X4_copies_b2 a1 a2 a.1 a.2) fu_ (0, σ)) = _ from k1, e_ob]
/-- a list behind a field of the object is copied to another of its fields -/
theorem dup_l {g : GS} {ρ : Nat → Nat} {a src dst rs rd l : Nat} {xs : List Nat} (hE : EnE g ρ) (hrd : rd ≠ 1) (hk : gK g a = 1) (hra : ρ a = 1) (hz : a < gz g) (hs : gR g a src = l + 1) (hl : LiP g ρ rs l xs) :
    ∃ g1 g2 g', nw_ g 12 3 = g1 ∧ gK g1 a = 1 ∧ gR g1 a src = l + 1 ∧ J2_init_2 (gz g) l g1 = some (((), g2), 1, xs.length) ∧ gK g2 a = 1 ∧ pR g2 a dst (gz g + 1) = g' ∧ Fr (fun q => q = a) g g' ∧ (∀ i, gR g' a i = if i = dst then gz g + 1 else gR g a i) ∧ (∀ i, gI g' a i = gI g a i) ∧ LiP g' (nr ρ g rd) rd (gz g) xs ∧ gz g < gz g' ∧ gK g' a = 1 := by
  obtain ⟨e, he⟩ := hl
  have F0 : Fr no_ g (nw_ g 12 3) := Fr.nw
  have hza : ¬ a = gz g := by omega
  have hle : ¬ gz g = l := by have := he.2.2.1; omega
  obtain ⟨g2, e', b1, b2, b3, b4⟩ := J2_init2_l (r := rd) (hE.to F0 (nr_ag (r := rd))) (by rw [K_nw, if_pos rfl]) (nr_ge (Nat.le_refl _)) (by rw [z_nw]; exact Nat.lt_succ_self _) (he.to F0 (nr_ag (r := rd)) (fun _ _ _ k => k)) hle
  have F1 : Fr no_ g g2 := F0.trans b3 (fun q hq k => by omega)
  have k1 : gK (nw_ g 12 3) a = 1 := by rw [K_nw, if_neg hza, hk]
  have k2 : gK g2 a = 1 := by rw [F1.K hz, hk]
  rw [nr_nr (by rw [z_nw]; omega)] at b2
  refine ⟨_, g2, _, rfl, k1, by rw [R_nw, if_neg hza, hs], b1, k2, rfl, ?_, fun i => ?_, fun i => ?_, ⟨e', ?_⟩, ?_, k2⟩
  · exact (F1.mono (fun _ _ k => k.elim)).trans (Fr.pR (W := fun q => q = a) rfl) (fun _ _ k => k)
  · rw [R_pR]
    by_cases q : i = dst
    · rw [if_pos ⟨rfl, q⟩, if_pos q]
    · rw [if_neg (by rintro ⟨-, k⟩; exact q k), if_neg q, F1.R hz (fun k => k)]
  · rw [I_pR, F1.I hz (fun k => k)]
  · refine b2.to (Fr.pR (W := fun q => q = a) rfl) Ag.rf (fun q _ k k2 => ?_)
    rw [k2, nr_lt hz, hra] at k
    omega
  · show gz g < gz g2
    rw [b4, z_nw]; omega
theorem op_image {a o : Nat} {g : GS} {σ : MS} (hr : Rel a o g σ) : OpV a o (X1_image a g) (X4_image σ) := by
  obtain ⟨ρ, sc, v, n, k, h, x, m, T, hp⟩ := hr
  have ha := hp.1.1.1
  obtain ⟨n1, n2, ⟨n3, n3'⟩, n4⟩ := hp.2.1
  obtain ⟨l7, xs7, c1, c2, c3, c4, c5⟩ := hp.2.2.2.2.2.1
  obtain ⟨nf, ⟨l8, xs8, d1, d2, d3, d4⟩, d5, d6, d7⟩ := hp.2.2.2.2.2.2.1
  obtain ⟨l9, xs9, e1, e2, e3, e4, e5, e6⟩ := hp.2.2.2.2.2.2.2.1
  have hE := hp.2.2.2.2.2.2.2.2.2.2.1
  -- the component
  obtain ⟨g1, dc, ds, a1, a2, a3, a4, a5, a6⟩ := X3_copy_l hE.1 n2 n3' 0
  obtain ⟨g2, hg2⟩ : ∃ g2, g2 = pR g1 a 11 (gz g + 1) := ⟨_, rfl⟩
  have F12 : Fr (fun q => q = a) g1 g2 := by rw [hg2]; exact Fr.pR rfl
  have F2 : Fr (fun q => q = a) g g2 := (a3.mono (fun _ _ k => k.elim)).trans F12 (fun _ _ k => k)
  have hA : Ag g ρ (nr ρ g 0) := nr_ag
  have hna : ∀ r q, r ≠ 1 → ρ q = r ∨ ρ q = 0 → ¬ q = a := fun r q hr k k2 => by rw [k2, ha.2.1] at k; omega
  have hna' : ∀ q, nr ρ g 0 q = 0 ∨ nr ρ g 0 q = 0 → ¬ q = a := fun q k k2 => by rw [k2, nr_lt ha.2.2.1, ha.2.1] at k; omega
  have kg1 : gK g1 a = 1 := by rw [a3.K ha.2.2.1, ha.1]
  have k2 : gK g2 a = 1 := by rw [F2.K ha.2.2.1, ha.1]
  have hra : nr ρ g 0 a = 1 := by rw [nr_lt ha.2.2.1, ha.2.1]
  have R2 : ∀ i, gR g2 a i = if i = 11 then gz g + 1 else gR g a i := fun i => by
    rw [hg2, R_pR]
    by_cases q : i = 11
    · rw [if_pos ⟨rfl, q⟩, if_pos q]
    · rw [if_neg (by rintro ⟨-, k⟩; exact q k), if_neg q, a3.R ha.2.2.1 (fun k => k)]
  have I2 : ∀ i, gI g2 a i = gI g a i := fun i => by rw [hg2, I_pR, a3.I ha.2.2.1 (fun k => k)]
  obtain ⟨h1, h2, g3, o1, o2, o3, o4, o5, o6, F3, R3, I3, L3, z3, k3⟩ := dup_l (src := 7) (dst := 12) (rd := 0) (hE.1.to F2 hA) (by decide) k2 hra (F2.lt ha.2.2.1) (by rw [R2, if_neg (by decide), c1]) (c2.to F2 hA (fun q _ k => hna 3 q (by decide) k))
  rw [nr_nr F2.z] at L3
  have F03 : Fr (fun q => q = a) g g3 := F2.trans F3 (fun _ _ k => k)
  obtain ⟨h3, h4, g4, p1, p2, p3, p4, p5, p6, F4, R4, I4, L4, z4, k4⟩ := dup_l (src := 8) (dst := 13) (rd := 0) (hE.1.to F03 hA) (by decide) k3 hra (F03.lt ha.2.2.1) (by rw [R3, if_neg (by decide), R2, if_neg (by decide), d1]) (d2.to F03 hA (fun q _ k => hna 4 q (by decide) k))
  rw [nr_nr F03.z] at L4
  have F04 : Fr (fun q => q = a) g g4 := F03.trans F4 (fun _ _ k => k)
  obtain ⟨h5, h6, g5, q1, q2, q3, q4, q5, q6, F5, R5, I5, L5, z5, k5⟩ := dup_l (src := 9) (dst := 14) (rd := 0) (hE.1.to F04 hA) (by decide) k4 hra (F04.lt ha.2.2.1) (by rw [R4, if_neg (by decide), R3, if_neg (by decide), R2, if_neg (by decide), e1]) (e2.to F04 hA (fun q _ k => hna 5 q (by decide) k))
  rw [nr_nr F04.z] at L5
  have F05 : Fr (fun q => q = a) g g5 := F04.trans F5 (fun _ _ k => k)
  have F15 : Fr (fun q => q = a) g1 g5 := ((F12.trans F3 (fun _ _ k => k)).trans F4 (fun _ _ k => k)).trans F5 (fun _ _ k => k)
  have F35 : Fr (fun q => q = a) g3 g5 := F4.trans F5 (fun _ _ k => k)
  have hR : ∀ i, gR g5 a i = if i = 14 then gz g4 + 1 else if i = 13 then gz g3 + 1 else if i = 12 then gz g2 + 1 else if i = 11 then gz g + 1 else gR g a i := fun i => by rw [R5, R4, R3, R2]
  have hI : ∀ i, i ∉ [] → gI g5 a i = gI g a i := fun i _ => by rw [I5, I4, I3, I2]
  have hR' : ∀ i, i ∉ [11, 12, 13, 14] → gR g5 a i = gR g a i := fun i hi => by
    rw [hR, if_neg (fun k => hi (by simp [k])), if_neg (fun k => hi (by simp [k])), if_neg (fun k => hi (by simp [k])), if_neg (fun k => hi (by simp [k]))]
  -- the model
  obtain ⟨σ1, hσ1⟩ : ∃ σ1, σ1 = s_I (s_I (s_I (s_I (s_I σ 0 0) 78 1) 79 (m_I σ 56)) 80 (m_I σ 74)) 81 (m_I σ 76) := ⟨_, rfl⟩
  have hM1 : Mf [0, 78, 79, 80, 81] [82, 83, 84, 85] σ σ1 := by
    rw [hσ1]
    exact ((((Mf.sI (LI := [0, 78, 79, 80, 81]) (LA := [82, 83, 84, 85]) (by decide)).trans (Mf.sI (LI := [78]) (LA := []) (by decide)) (by decide) (fun _ k => by cases k)).trans (Mf.sI (LI := [79]) (LA := []) (by decide)) (by decide) (fun _ k => by cases k)).trans (Mf.sI (LI := [80]) (LA := []) (by decide)) (by decide) (fun _ k => by cases k)).trans (Mf.sI (LI := [81]) (LA := []) (by decide)) (by decide) (fun _ k => by cases k)
  obtain ⟨σ2, r1, r2, r3⟩ := copies_l (σ := σ1) (a1 := 53) (a2 := 82) (L := 12) rfl rfl rfl rfl (by omega) (by omega) (by decide)
  obtain ⟨σ3, s1, s2, s3⟩ := copies_l (σ := σ2) (a1 := 55) (a2 := 83) (L := 80) rfl rfl rfl rfl (by omega) (by omega) (by decide)
  obtain ⟨σ4, t1, t2, t3⟩ := copies_l (σ := σ3) (a1 := 75) (a2 := 84) (L := 16) rfl rfl rfl rfl (by omega) (by omega) (by decide)
  obtain ⟨σ5, u1, u2, u3⟩ := copies_l (σ := σ4) (a1 := 77) (a2 := 85) (L := 16) rfl rfl rfl rfl (by omega) (by omega) (by decide)
  have hM : Mf [0, 78, 79, 80, 81] [82, 83, 84, 85] σ σ5 := (((hM1.trans r2 (fun _ k => by cases k) (by decide)).trans s2 (fun _ k => by cases k) (by decide)).trans t2 (fun _ k => by cases k) (by decide)).trans u2 (fun _ k => by cases k) (by decide)
  have hi : ∀ j, m_I σ5 j = m_I σ1 j := fun j => by rw [u2.I (by simp), t2.I (by simp), s2.I (by simp), r2.I (by simp)]
  have v82 : ∀ i, i < 12 → m_A σ5 82 i = m_A σ 53 i := fun i hi => by rw [u2.A (by decide), t2.A (by decide), s2.A (by decide), r3, if_pos hi, hM1.A (by decide)]
  have v83 : ∀ i, i < 80 → m_A σ5 83 i = m_A σ 55 i := fun i hi => by rw [u2.A (by decide), t2.A (by decide), s3, if_pos hi, r2.A (by decide), hM1.A (by decide)]
  have v84 : ∀ i, i < 16 → m_A σ5 84 i = m_A σ 75 i := fun i hi => by rw [u2.A (by decide), t3, if_pos hi, s2.A (by decide), r2.A (by decide), hM1.A (by decide)]
  have v85 : ∀ i, i < 16 → m_A σ5 85 i = m_A σ 77 i := fun i hi => by rw [u3, if_pos hi, t2.A (by decide), s2.A (by decide), r2.A (by decide), hM1.A (by decide)]
  have w78 : m_I σ5 78 = 1 := by rw [hi, hσ1]; rfl
  have w79 : m_I σ5 79 = nI xs7.length := by rw [hi, ← c3, hσ1]; rfl
  have w80 : m_I σ5 80 = nI nf := by rw [hi, ← d5, hσ1]; rfl
  have w81 : m_I σ5 81 = nI xs9.length := by rw [hi, ← e3, hσ1]; rfl
  obtain ⟨B, N, Z, Ta, Re, Ac, Fi, Bo, Ke, Im, En, Ou⟩ := hp.all (LR := [11, 12, 13, 14]) (LJ := []) (D := [1]) F05 hA (fun r hr q _ k e => by
    rw [e, ha.2.1] at k; exact hr (by simp [k])) hR' hI hM (by decide)
  have m12 : ∀ i, i < 6 + m → i < 12 := fun i hi => by omega
  have hSet : SetP g5 (nr ρ g 0) 0 (gz g) m (m_A σ5 82) := (a2.to F15 Ag.rf (fun q _ k => hna' q k)).congr (fun i hi => v82 i (m12 i hi))
  have hAc5 : AcR g5 (nr ρ g 0) xs7 m h (m_A σ5 82) (m_A σ5 83) := (c5.to F05 hA (fun q _ k => hna 0 q (by decide) (Or.inl k))).congr (fun i hi => v82 i (m12 i hi)) (fun i hi => v83 i (by omega))
  have hFi5 : FilP g5 (nr ρ g 0) 0 a 13 T (m_A σ5 84) (m_I σ5 80) := by
    refine ⟨nf, ⟨gz g3, xs8, by rw [hR, if_neg (by decide), if_pos rfl], L4.to F5 Ag.rf (fun q _ k => hna' q k), d3, (d4.to F05 hA (fun q _ k => hna 0 q (by decide) (Or.inl k))).congr (fun i hi => v84 _ (by omega)) (fun i hi => v84 _ (by omega))⟩, w80, d6, fun j hj => ?_⟩
    rw [v84 _ (by omega), v84 _ (by omega)]
    exact d7 j hj
  have hBo5 : BooP g5 (nr ρ g 0) 0 a 14 (m_A σ5 85) (m_I σ5 81) := ⟨gz g4, xs9, by rw [hR, if_pos rfl], L5, w81, e4, (e5.to F05 hA (fun q _ k => hna 0 q (by decide) (Or.inl k))).congr (fun i hi => v85 _ (by omega)), fun i hi => by rw [v85 _ (by omega)]; exact e6 i hi⟩
  have hcost : xs9.length + (3 + (xs8.length + (3 + (xs7.length + (3 + ds))))) ≤ 80000 := by omega
  have hdc : 1 + (1 + (1 + (1 + (1 + (1 + dc))))) ≤ 18000 := by omega
  refine ⟨g5, 0 + 1 + 1 + 1 + 1 + 1 + 1 + dc, 0 + xs9.length + 3 + xs8.length + 3 + xs7.length + 3 + ds, σ5, ?_, ?_, ⟨_, _, _, _, _, _, _, _, _, B (by decide), N (by decide), Z (by decide), Ta (by decide), Re (by decide), Ac (by decide), Fi (by decide), Bo (by decide), Ke (by decide), Or.inr ⟨w78, ⟨gz g, ?_, hSet⟩, n4.congr (fun i hi => v82 i (m12 i hi)), ⟨gz g2, xs7, ?_, L3.to F35 Ag.rf (fun q _ k => hna' q k), w79, c4, hAc5⟩, hFi5, hBo5⟩, En, Ou⟩, by omega, by omega⟩
  · unfold X1_image
    rw [e_wk ha.1, n1, e_nn, e_wk n2.1, a1, e_ca, e_wk kg1, ← hg2, e_al, o1, e_wk o2, o3, e_nn, o4, e_ca, e_wk o5, o6, e_al, p1, e_wk p2, p3, e_nn, p4, e_ca, e_wk p5, p6, e_al, q1, e_wk q2, q3, e_nn, q4, e_ca, e_wk q5, q6, e_bp, e_bp, e_bp, e_bp, e_bp, e_bp, e_bp]
  · unfold X4_image
    rw [← hσ1, r1, e_ob, s1, e_ob, t1, e_ob, u1, e_ob]
  · rw [hR, if_neg (by decide), if_neg (by decide), if_neg (by decide), if_pos rfl]
  · rw [hR, if_neg (by decide), if_neg (by decide), if_pos rfl]
