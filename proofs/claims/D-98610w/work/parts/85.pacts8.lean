/-! LAWS: restore (own work) -/
set_option maxRecDepth 100000
theorem op_restore {a o : Nat} {g : GS} {σ : MS} (hr : Rel a o g σ) : OpI a o (X1_restore a g) (X4_restore σ) := by
  obtain ⟨ρ, sc, v, n, k, h, x, m, T, hp⟩ := hr
  have hp0 := hp.m (s0_eq (c := 0))
  have ha := hp.1.1.1
  have hE := hp.2.2.2.2.2.2.2.2.2.2.1
  obtain ⟨n3, n3'⟩ := hp.2.1.2.2.1
  unfold X1_restore X4_restore
  rw [e_wk ha.1]
  rcases hp.2.2.2.2.2.2.2.2.2.1 with ⟨b1, b2⟩ | ⟨b2, ⟨x0, b1, n2⟩, n4, hAc, hFi, hBo⟩
  · rw [if_pos b1, if_pos b2]
    exact ⟨0, g, 0, 0, _, rfl, rfl, hp0.r MEq.rf, by omega, by omega⟩
  obtain ⟨l7, xs7, c1, c2, c3, c4, c5⟩ := hAc
  obtain ⟨nf, ⟨l8, xs8, d1, d2, d3, d4⟩, d5, d6, d7⟩ := hFi
  obtain ⟨l9, xs9, e1, e2, e3, e4, e5, e6⟩ := hBo
  -- the component
  obtain ⟨g1, dc, ds, a1, a2, a3, a4, a5, a6⟩ := X3_copy_l hE.1 n2 n3' 2
  obtain ⟨g2, hg2⟩ : ∃ g2, g2 = pR g1 a 1 (gz g + 1) := ⟨_, rfl⟩
  have F12 : Fr (fun q => q = a) g1 g2 := by rw [hg2]; exact Fr.pR rfl
  have F2 : Fr (fun q => q = a) g g2 := (a3.mono (fun _ _ k => k.elim)).trans F12 (fun _ _ k => k)
  have hA2 : Ag g ρ (nr ρ g 2) := nr_ag
  have hna : ∀ q, ρ q = 0 ∨ ρ q = 0 → ¬ q = a := fun q k k2 => by rw [k2, ha.2.1] at k; omega
  have kg1 : gK g1 a = 1 := by rw [a3.K ha.2.2.1, ha.1]
  have k2 : gK g2 a = 1 := by rw [F2.K ha.2.2.1, ha.1]
  have la2 := F2.lt ha.2.2.1
  have hra2 : nr ρ g 2 a = 1 := by rw [nr_lt ha.2.2.1, ha.2.1]
  have R2 : ∀ i, gR g2 a i = if i = 1 then gz g + 1 else gR g a i := fun i => by
    rw [hg2, R_pR]
    by_cases q : i = 1
    · rw [if_pos ⟨rfl, q⟩, if_pos q]
    · rw [if_neg (by rintro ⟨-, k⟩; exact q k), if_neg q, a3.R ha.2.2.1 (fun k => k)]
  have I2 : ∀ i, gI g2 a i = gI g a i := fun i => by rw [hg2, I_pR, a3.I ha.2.2.1 (fun k => k)]
  obtain ⟨h1, h2, g3, o1, o2, o3, o4, o5, o6, F3, R3, I3, L3, z3, k3⟩ := dup_l (src := 12) (dst := 7) (rd := 3) (hE.1.to F2 hA2) (by decide) k2 hra2 la2 (by rw [R2, if_neg (by decide), c1]) (c2.to F2 hA2 (fun q _ k => hna q k))
  have F03 : Fr (fun q => q = a) g g3 := F2.trans F3 (fun _ _ k => k)
  have hA3 : Ag g ρ (nr (nr ρ g 2) g2 3) := hA2.trans nr_ag F2.z
  have la3 := F03.lt ha.2.2.1
  have hra3 : nr (nr ρ g 2) g2 3 a = 1 := by rw [nr_lt la2, hra2]
  obtain ⟨h3, h4, g4, p1, p2, p3, p4, p5, p6, F4, R4, I4, L4, z4, k4⟩ := dup_l (src := 13) (dst := 8) (rd := 4) (hE.1.to F03 hA3) (by decide) k3 hra3 la3 (by rw [R3, if_neg (by decide), R2, if_neg (by decide), d1]) (d2.to F03 hA3 (fun q _ k => hna q k))
  have F04 : Fr (fun q => q = a) g g4 := F03.trans F4 (fun _ _ k => k)
  have hA4 : Ag g ρ (nr (nr (nr ρ g 2) g2 3) g3 4) := hA3.trans nr_ag F03.z
  have la4 := F04.lt ha.2.2.1
  have hra4 : nr (nr (nr ρ g 2) g2 3) g3 4 a = 1 := by rw [nr_lt la3, hra3]
  obtain ⟨h5, h6, g5, q1, q2, q3, q4, q5, q6, F5, R5, I5, L5, z5, k5⟩ := dup_l (src := 14) (dst := 9) (rd := 5) (hE.1.to F04 hA4) (by decide) k4 hra4 la4 (by rw [R4, if_neg (by decide), R3, if_neg (by decide), R2, if_neg (by decide), e1]) (e2.to F04 hA4 (fun q _ k => hna q k))
  have F05 : Fr (fun q => q = a) g g5 := F04.trans F5 (fun _ _ k => k)
  have hA5 : Ag g ρ (nr (nr (nr (nr ρ g 2) g2 3) g3 4) g4 5) := hA4.trans nr_ag F04.z
  have F15 : Fr (fun q => q = a) g1 g5 := ((F12.trans F3 (fun _ _ k => k)).trans F4 (fun _ _ k => k)).trans F5 (fun _ _ k => k)
  have A25 : Ag g2 (nr ρ g 2) (nr (nr (nr (nr ρ g 2) g2 3) g3 4) g4 5) := (nr_ag.trans nr_ag F3.z).trans nr_ag (F3.trans F4 (fun _ _ k => k)).z
  have A15 : Ag g1 (nr ρ g 2) (nr (nr (nr (nr ρ g 2) g2 3) g3 4) g4 5) := fun q hq => A25 q (F12.lt hq)
  have F35 : Fr (fun q => q = a) g3 g5 := F4.trans F5 (fun _ _ k => k)
  have A35 : Ag g3 (nr (nr ρ g 2) g2 3) (nr (nr (nr (nr ρ g 2) g2 3) g3 4) g4 5) := nr_ag.trans nr_ag F4.z
  have hR : ∀ i, gR g5 a i = if i = 9 then gz g4 + 1 else if i = 8 then gz g3 + 1 else if i = 7 then gz g2 + 1 else if i = 1 then gz g + 1 else gR g a i := fun i => by rw [R5, R4, R3, R2]
  have hI : ∀ i, i ∉ [] → gI g5 a i = gI g a i := fun i _ => by rw [I5, I4, I3, I2]
  have hR' : ∀ i, i ∉ [1, 7, 8, 9] → gR g5 a i = gR g a i := fun i hi => by
    rw [hR, if_neg (fun k => hi (by simp [k])), if_neg (fun k => hi (by simp [k])), if_neg (fun k => hi (by simp [k])), if_neg (fun k => hi (by simp [k]))]
  -- the model
  obtain ⟨σ1, hσ1⟩ : ∃ σ1, σ1 = s_I (s_I (s_I (s_I σ 0 0) 56 (m_I σ 79)) 74 (m_I σ 80)) 76 (m_I σ 81) := ⟨_, rfl⟩
  have hM1 : Mf [0, 56, 74, 76] [53, 55, 75, 77] σ σ1 := by
    rw [hσ1]
    exact (((Mf.sI (LI := [0, 56, 74, 76]) (LA := [53, 55, 75, 77]) (by decide)).trans (Mf.sI (LI := [56]) (LA := []) (by decide)) (by decide) (fun _ k => by cases k)).trans (Mf.sI (LI := [74]) (LA := []) (by decide)) (by decide) (fun _ k => by cases k)).trans (Mf.sI (LI := [76]) (LA := []) (by decide)) (by decide) (fun _ k => by cases k)
  obtain ⟨σ2, r1, r2, r3⟩ := copies_l (σ := σ1) (a1 := 82) (a2 := 53) (L := 12) rfl rfl rfl rfl (by omega) (by omega) (by decide)
  obtain ⟨σ3, s1, s2, s3⟩ := copies_l (σ := σ2) (a1 := 83) (a2 := 55) (L := 80) rfl rfl rfl rfl (by omega) (by omega) (by decide)
  obtain ⟨σ4, t1, t2, t3⟩ := copies_l (σ := σ3) (a1 := 84) (a2 := 75) (L := 16) rfl rfl rfl rfl (by omega) (by omega) (by decide)
  obtain ⟨σ5, u1, u2, u3⟩ := copies_l (σ := σ4) (a1 := 85) (a2 := 77) (L := 16) rfl rfl rfl rfl (by omega) (by omega) (by decide)
  have hM : Mf [0, 56, 74, 76] [53, 55, 75, 77] σ σ5 := (((hM1.trans r2 (fun _ k => by cases k) (by decide)).trans s2 (fun _ k => by cases k) (by decide)).trans t2 (fun _ k => by cases k) (by decide)).trans u2 (fun _ k => by cases k) (by decide)
  have hi : ∀ j, m_I σ5 j = m_I σ1 j := fun j => by rw [u2.I (by simp), t2.I (by simp), s2.I (by simp), r2.I (by simp)]
  have v82 : ∀ i, i < 12 → m_A σ5 53 i = m_A σ 82 i := fun i hi => by rw [u2.A (by decide), t2.A (by decide), s2.A (by decide), r3, if_pos hi, hM1.A (by decide)]
  have v83 : ∀ i, i < 80 → m_A σ5 55 i = m_A σ 83 i := fun i hi => by rw [u2.A (by decide), t2.A (by decide), s3, if_pos hi, r2.A (by decide), hM1.A (by decide)]
  have v84 : ∀ i, i < 16 → m_A σ5 75 i = m_A σ 84 i := fun i hi => by rw [u2.A (by decide), t3, if_pos hi, s2.A (by decide), r2.A (by decide), hM1.A (by decide)]
  have v85 : ∀ i, i < 16 → m_A σ5 77 i = m_A σ 85 i := fun i hi => by rw [u3, if_pos hi, t2.A (by decide), s2.A (by decide), r2.A (by decide), hM1.A (by decide)]
  have w79 : m_I σ5 56 = nI xs7.length := by rw [hi, ← c3, hσ1]; rfl
  have w80 : m_I σ5 74 = nI nf := by rw [hi, ← d5, hσ1]; rfl
  have w81 : m_I σ5 76 = nI xs9.length := by rw [hi, ← e3, hσ1]; rfl
  obtain ⟨B, N, Z, Ta, Re, Ac, Fi, Bo, Ke, Im, En, Ou⟩ := hp.all (LR := [1, 7, 8, 9]) (LJ := []) (D := [1]) F05 hA5 (fun r hr q _ k e => by
    rw [e, ha.2.1] at k; exact hr (by simp [k])) hR' hI hM (by decide)
  have m12 : ∀ i, i < 6 + m → i < 12 := fun i hi => by omega
  have hn2 : ∀ q, nr ρ g 2 q = 2 ∨ nr ρ g 2 q = 0 → ¬ q = a := fun q k k2 => by rw [k2, hra2] at k; omega
  have hn3 : ∀ q, nr (nr ρ g 2) g2 3 q = 3 ∨ nr (nr ρ g 2) g2 3 q = 0 → ¬ q = a := fun q k k2 => by rw [k2, hra3] at k; omega
  have hn4 : ∀ q, nr (nr (nr ρ g 2) g2 3) g3 4 q = 4 ∨ nr (nr (nr ρ g 2) g2 3) g3 4 q = 0 → ¬ q = a := fun q k k2 => by rw [k2, hra4] at k; omega
  have hSet : SetP g5 (nr (nr (nr (nr ρ g 2) g2 3) g3 4) g4 5) 2 (gz g) m (m_A σ5 53) := (a2.to F15 A15 (fun q _ k => hn2 q k)).congr (fun i hi => v82 i (m12 i hi))
  have hAc5 : AcR g5 (nr (nr (nr (nr ρ g 2) g2 3) g3 4) g4 5) xs7 m h (m_A σ5 53) (m_A σ5 55) := (c5.to F05 hA5 (fun q _ k => hna q (Or.inl k))).congr (fun i hi => v82 i (m12 i hi)) (fun i hi => v83 i (by omega))
  have hFi5 : FilP g5 (nr (nr (nr (nr ρ g 2) g2 3) g3 4) g4 5) 4 a 8 T (m_A σ5 75) (m_I σ5 74) := by
    refine ⟨nf, ⟨gz g3, xs8, by rw [hR, if_neg (by decide), if_pos rfl], L4.to F5 nr_ag (fun q _ k => hn4 q k), d3, (d4.to F05 hA5 (fun q _ k => hna q (Or.inl k))).congr (fun i hi => v84 _ (by omega)) (fun i hi => v84 _ (by omega))⟩, w80, d6, fun j hj => ?_⟩
    rw [v84 _ (by omega), v84 _ (by omega)]
    exact d7 j hj
  have hBo5 : BooP g5 (nr (nr (nr (nr ρ g 2) g2 3) g3 4) g4 5) 5 a 9 (m_A σ5 77) (m_I σ5 76) := ⟨gz g4, xs9, by rw [hR, if_pos rfl], L5, w81, e4, (e5.to F05 hA5 (fun q _ k => hna q (Or.inl k))).congr (fun i hi => v85 _ (by omega)), fun i hi => by rw [v85 _ (by omega)]; exact e6 i hi⟩
  have hb78 : ¬ m_I σ 78 = 0 := by rw [b2]; decide
  refine ⟨1, g5, 0 + 1 + 1 + 1 + 1 + 1 + 1 + dc, 0 + xs9.length + 3 + xs8.length + 3 + xs7.length + 3 + ds, σ5, ?_, ?_, ⟨_, _, _, _, _, _, _, _, _, B (by decide), ⟨?_, hSet, ⟨by rw [hM.I (by decide)]; exact n3, n3'⟩, n4.congr (fun i hi => v82 i (m12 i hi))⟩, Z (by decide), Ta (by decide), Re (by decide), ⟨gz g2, xs7, ?_, L3.to F35 A35 (fun q _ k => hn3 q k), w79, c4, hAc5⟩, hFi5, hBo5, Ke (by decide), Im (by decide), En, Ou⟩, by omega, by omega⟩
  · rw [if_neg (by omega), b1, e_nn, e_wk n2.1, a1, e_ca, e_wk kg1, ← hg2, e_al, o1, e_wk o2, o3, e_nn, o4, e_ca, e_wk o5, o6, e_al, p1, e_wk p2, p3, e_nn, p4, e_ca, e_wk p5, p6, e_al, q1, e_wk q2, q3, e_nn, q4, e_ca, e_wk q5, q6, e_bp, e_bp, e_bp, e_bp, e_bp, e_bp, e_bp]
  · rw [if_neg hb78, ← hσ1, r1, e_ob, s1, e_ob, t1, e_ob, u1, e_ob]
  · rw [hR, if_neg (by decide), if_neg (by decide), if_neg (by decide), if_pos rfl]
  · rw [hR, if_neg (by decide), if_neg (by decide), if_pos rfl]
