/-! LAWS: marks: a leaf (own work) -/
set_option maxRecDepth 100000
theorem leaf_l {g : GS} {ρ : Nat → Nat} {a sc v n kk h T u x sa ra oa lm P k c9 : Nat} {ps zs : List Nat} {N : Nat → Nat} {b mo fr : Int32} {σ : MS} (rec : Nat → Int32 → Int32 → GS → Option ((Unit × GS) × Nat × Nat)) (hG : GC g ρ a sc v n kk h T u x sa ra oa lm P ps k σ) (hK9 : GK g ρ c9 P u k b σ) (hL : LiP g ρ 10 lm zs) (hz : zs.length = k) (hk : k ≤ 3) (hps : ps.length ≤ 13) (hzs : ∀ i y, zs[i]? = some y → ps[N i]? = some y) (hN : ∀ i, i < k → m_A σ 72 i = nI (N i)) (hNc : ∀ i, i < k → N i + (k - i) ≤ ps.length) :
    ∃ g' ρ' dc ds σ' b' fl, X12_go_b rec c9 fr 0 g = some (((), g'), dc, ds) ∧ X4_marks_b117 (nI k) mo b 1 σ = some (.inl (b', fl, σ')) ∧ GC g' ρ' a sc v n kk h T u x sa ra oa lm P ps k σ' ∧ GK g' ρ' c9 P u k b' σ' ∧ LiP g' ρ' 10 lm zs ∧ Fr (fun q => ρ q = 6 ∨ 9 ≤ ρ q) g g' ∧ Ag g ρ ρ' ∧ Mf [] [53, 57, 58, 61, 62, 63, 70, 72] σ σ' ∧ NxP k ps.length N k fl (m_A σ' 72) ∧ (fl = 0 ∨ fl = 1) ∧ 0 ≤ b'.toInt ∧ dc ≤ 2 ∧ ds ≤ 6 := by
  have hNc' : ∀ i, i < k → N i < ps.length := fun i hi => by have := hNc i hi; omega
  obtain ⟨hC, hK, hTn, ⟨x1, x2, x3, ⟨y0, y1, y2, y3, y4, y5⟩, x5⟩, ⟨hs, hT⟩, h4, hR, hP, hE⟩ := hG
  obtain ⟨⟨c1, c2, c3, c4, c5, c6⟩, hb⟩ := hK9
  -- the row
  obtain ⟨σr, r1, r2, r3, r4⟩ := rowcp_l (σ := σ) (k := k) mo b hk hps hN hNc'
  have hvals : ∀ i, i < k → 12 ≤ (m_A σr 53 (6 + i)).toInt ∧ (m_A σr 53 (6 + i)).toInt ≤ 480 := fun i hi => by rw [r4 i hi]; exact hP.2.2.2 _ (hNc' i hi)
  have hIPz : IP g ρ zs (fun i => m_A σ 71 (N i)) := fun i y hy => hP.2.1 (N i) y (hzs i y hy)
  have hS : SetP g ρ 10 x k (m_A σr 53) := ⟨x1, x2, x3, ⟨by rw [r3 0 (by omega), y0], by rw [r3 1 (by omega), y1], by rw [r3 2 (by omega), y2], by rw [r3 3 (by omega), y3], by rw [r3 5 (by omega), y4], by rw [r3 4 (by omega), y5]⟩, lm, zs, x5, hL, hz, hIPz.congr (fun i hi => r4 i (by omega))⟩
  have hRr : RowOK (m_A σr 53) k h := by
    obtain ⟨q0, q1, q2, q3, q4, q5, -⟩ := hR
    exact ⟨by rw [r3 0 (by omega)]; exact q0, by rw [r3 1 (by omega)]; exact q1, by rw [r3 2 (by omega)]; exact q2, by rw [r3 3 (by omega)]; exact q3, by rw [r3 4 (by omega)]; exact q4, by rw [r3 5 (by omega)]; exact q5, hvals⟩
  have hTW : TW g ρ a sc v u x sa ra oa 10 k n kk h σr := by
    refine ⟨hC.to (W := no_) Fr.rf Ag.rf (fun _ _ _ k => k) ⟨rfl, rfl⟩ r2 (by decide) (by decide), hK, ?_, ⟨by omega, by omega⟩, hS, ⟨by rw [r2.I (by decide)]; exact h4, by omega⟩, hRr⟩
    obtain ⟨⟨n1, n1'⟩, ⟨n2, n2'⟩, n3, n3'⟩ := hTn
    exact ⟨⟨by rw [n1, r2.I (by decide)], by rw [r2.I (by decide)]; exact n1'⟩, ⟨by rw [n2, r2.I (by decide)], by rw [r2.I (by decide)]; exact n2'⟩, by rw [n3, r2.I (by decide)], by rw [r2.I (by decide)]; exact n3'⟩
  obtain ⟨w, g1, σ1, f1, f2, f3, f4, f5, f6, f7, f8, f9, f9'⟩ := hTW.rs (T := T) (by rw [r2.Af (by decide)]; exact hs) hT
  obtain ⟨hC1, hK1, hTn1, -, hS1, ⟨hm1, -⟩, hR1⟩ := f5.1
  -- roles of what the run wrote
  have hvw : ρ v = 6 := hC.2.1.2.2.1
  have hwr : ∀ q, tw_ v sa ra oa q → ρ q = 6 ∨ ρ q = 9 := by
    rintro q (rfl | rfl | rfl | rfl)
    · exact Or.inl hvw
    · exact Or.inr hK.2.2.1.1.2.2.1
    · exact Or.inr hK.2.2.1.2.1.2.2.1
    · exact Or.inr hK.2.2.1.2.2.2.2.1
  have hno : ∀ r, r ≠ 6 → r ≠ 9 → ∀ q, ρ q = r → ¬ tw_ v sa ra oa q := fun r a1 a2 q k k2 => by
    rcases hwr q k2 with e | e
    · rw [e] at k; exact a1 k.symm
    · rw [e] at k; exact a2 k.symm
  have hcw : ¬ tw_ v sa ra oa c9 := hno 13 (by decide) (by decide) c9 c2
  have hxw : ¬ tw_ v sa ra oa x := hno 10 (by decide) (by decide) x x2
  have hL1 : LiP g1 ρ 10 lm zs := hL.to f6 Ag.rf (fun q _ k => k.elim (hno 10 (by decide) (by decide) q) (hno 0 (by decide) (by decide) q))
  have hM1 : Mf [] [53, 57, 58, 61, 62, 63, 70, 72] σ σ1 := ((Mf.rf (LI := []) (LA := [53, 57, 58, 61, 62, 63, 70, 72])).trans r2 (fun _ k => k) (by decide)).trans f8 (fun _ k => k) (by decide)
  have hP1 : PlcP g1 ρ P ps σ1 := hP.to f6 Ag.rf (fun q _ k => k.elim (hno 11 (by decide) (by decide) q) (hno 0 (by decide) (by decide) q)) (hM1.I (by decide)) (hM1.Af (by decide))
  have hE1 : EnvP g1 ρ := hE.to f6 Ag.rf (fun q _ k => hno 0 (by decide) (by decide) q k)
  have hc1 : gK g1 c9 = 11 := by rw [f6.K c3, c1]
  have hR0 : RowOK (m_A σ1 53) 0 h := ⟨hR1.1, hR1.2.1, hR1.2.2.1, hR1.2.2.2.1, hR1.2.2.2.2.1, hR1.2.2.2.2.2.1, fun i hi => absurd hi (Nat.not_lt_zero _)⟩
  have hx6 : gR g1 x 6 = lm + 1 := by rw [f6.R x3 hxw, x5]
  have hGC1 : GC g1 ρ a sc v n kk h T u x sa ra oa lm P ps k σ1 := ⟨hC1, hK1, hTn1, ⟨hS1.1, x2, hS1.2.2.1, hS1.2.2.2.1, hx6⟩, ⟨f5.2.2.1, hT⟩, hm1, hR0, hP1, hE1⟩
  have hF1 : Fr (fun q => ρ q = 6 ∨ 9 ≤ ρ q) g g1 := f6.mono (fun q _ k => by
    rcases hwr q k with e | e
    · exact Or.inl e
    · exact Or.inr (by omega))
  -- the numbers afterwards
  have h72 : ∀ i, i < k → m_A σ1 72 i = nI (N i) := fun i hi => by rw [f8.A (by decide), r2.A (by decide), hN i hi]
  have hcomp : X12_go_b rec c9 fr 0 g = if b < w then (al_ (pI g1 c9 3 w) 12 3 fun u74 g75 => wk_ g75 c9 11 <| nn_ (gR g75 c9 1) fun b79 => wk_ g75 b79 10 <| nn_ (gR g75 b79 0) fun b82 => wk_ g75 b82 3 <| nn_ (gR g75 b82 6) fun b85 => ca_ (J2_init_2 u74 b85 g75) fun r89 g88 => wk_ g88 c9 11 <| some (((), pR g88 c9 2 (u74 + 1)), 0, 0)) else some (((), g1), 0, 0) := by
    unfold X12_go_b
    rw [if_pos rfl, e_wk c1, c5, e_nn, e_wk hK.1.1, f1, e_cb, e_wk hK1.1.1, f2, e_ob, e_wk hc1, f6.I c3 hcw, c6]
  have hmod : ∀ σ2 b', X4_marks_j208 (nI k) mo b' σ2 = cb_ (X4_nextNumbers (nI k) σ2) fun r31 σ32 => some (.inl (b', r31, σ32)) := fun σ2 b' => rfl
  have hmod0 : X4_marks_b117 (nI k) mo b 1 σ = if w ≤ b then X4_marks_j208 (nI k) mo b σ1 else (ob_ (lp_ (fun a : Int32 × MS => X4_marks_b177 (nI k) mo w a.1 a.2) fu_ (0, σ1)) fun e37 => X4_marks_j208 (nI k) mo w e37) := by
    unfold X4_marks_b117
    rw [if_neg nn01, r1, e_ob, f4, e_cb]
  have hb1 : b = -1 ∨ 0 ≤ b.toInt := by
    rcases hb with ⟨q, -⟩ | ⟨_, _, q, -⟩
    · exact Or.inl q
    · exact Or.inr q
  by_cases hbw : b < w
  · have hle : ¬ w ≤ b := by rw [i_le]; rw [i_lt] at hbw; omega
    rw [if_pos hbw] at hcomp
    rw [if_neg hle] at hmod0
    obtain ⟨σ2, s1, s2, s3⟩ := bestcp_l (σ := σ1) (k := k) mo w hk hps h72 hNc'
    obtain ⟨fl, σ3, t1, t2, t3, t4⟩ := next_l (σ := σ2) (N := N) hk hps (by rw [s2.I (by decide)]; exact hP1.2.2.1) (fun i hi => by rw [s2.A (by decide), h72 i hi]) hNc
    -- the copy
    obtain ⟨e, he⟩ := hL1
    obtain ⟨g2, hg2⟩ : ∃ g2, g2 = nw_ (pI g1 c9 3 w) 12 3 := ⟨_, rfl⟩
    have z2 : gz g2 = gz g1 + 1 := by rw [hg2]; rfl
    have c3' : c9 < gz g1 := f6.lt c3
    have F2 : Fr (fun q => q = c9) g1 g2 := by rw [hg2]; exact (Fr.pI (W := fun q => q = c9) rfl).trans Fr.nw (fun _ _ k => k)
    have hcz : ¬ c9 = gz g1 := by omega
    have k2 : gK g2 c9 = 11 := by rw [F2.K c3', hc1]
    have ku2 : gK g2 (gz g1) = 12 := by rw [hg2, K_nw, if_pos (show gz g1 = gz (pI g1 c9 3 w) from rfl)]
    have hlz : ¬ gz g1 = lm := by have := he.2.2.1; omega
    have hcr : ∀ r, r ≠ 13 → ∀ q, ρ q = r → ¬ q = c9 := fun r hr q k k2 => by rw [k2, c2] at k; exact hr k.symm
    have he2 : LiPe g2 (nr ρ g1 0) 10 lm e zs := he.to F2 nr_ag (fun q _ k => k.elim (hcr 10 (by decide) q) (hcr 0 (by decide) q))
    obtain ⟨g3, e', v1, v2, v3, v4⟩ := J2_init2_l (r := 0) (u := gz g1) (hE1.1.to F2 (nr_ag (r := 0))) ku2 (nr_ge (Nat.le_refl _)) (by rw [z2]; exact Nat.lt_succ_self _) he2 hlz
    rw [nr_nr F2.z] at v2
    have F3 : Fr (fun q => q = c9) g1 g3 := F2.trans v3 (fun q hq k => by omega)
    have k3 : gK g3 c9 = 11 := by rw [F3.K c3', hc1]
    obtain ⟨g4, hg4⟩ : ∃ g4, g4 = pR g3 c9 2 (gz g1 + 1) := ⟨_, rfl⟩
    have F34 : Fr (fun q => q = c9) g3 g4 := by rw [hg4]; exact Fr.pR rfl
    have F4 : Fr (fun q => q = c9) g1 g4 := F3.trans F34 (fun _ _ k => k)
    have hA4 : Ag g1 ρ (nr ρ g1 0) := nr_ag
    have hl3 : c9 < gz g3 := F3.lt c3'
    have hGC4 : GC g4 (nr ρ g1 0) a sc v n kk h T u x sa ra oa lm P ps k σ3 := hGC1.to F4 hA4 (fun q _ k => by
      rw [k]
      exact ⟨by rw [c2]; decide, fun e => hcr 9 (by decide) u hK.1.2.1 e.symm, fun e => hcr 10 (by decide) x x2 e.symm, by rw [c2]; decide⟩) (((Mf.rf (LI := []) (LA := [70, 72])).trans s2 (fun _ k => k) (by decide)).trans t2 (fun _ k => k) (by decide))
    have rc2 : ∀ i, gR g2 c9 i = gR g c9 i := fun i => by rw [hg2, R_nw, if_neg (show ¬ c9 = gz (pI g1 c9 3 w) from hcz), R_pI, f6.R c3 hcw]
    have rc3 : ∀ i, gR g3 c9 i = gR g c9 i := fun i => by rw [v3.R (by rw [z2]; omega) hcz, rc2]
    have rc4 : ∀ i, i ≠ 2 → gR g4 c9 i = gR g c9 i := fun i hi => by rw [hg4, R_pR, if_neg (by rintro ⟨-, k⟩; exact hi k), rc3]
    have ic4 : gI g4 c9 3 = w := by rw [hg4, I_pR, v3.I (by rw [z2]; omega) hcz, hg2, I_nw, if_neg (show ¬ c9 = gz (pI g1 c9 3 w) from hcz), I_pI, if_pos ⟨rfl, rfl⟩]
    have hbs : LiP g4 (nr ρ g1 0) 0 (gz g1) zs := ⟨e', v2.to F34 Ag.rf (fun q hq k k2 => by rw [k2, nr_lt c3', c2] at k; omega)⟩
    have hIP4 : IP g4 (nr ρ g1 0) zs (m_A σ3 70) := by
      have q1 : IP g1 ρ zs (fun i => m_A σ 71 (N i)) := hIPz.to f6 Ag.rf (fun q _ k => hno 0 (by decide) (by decide) q k)
      refine (q1.to F4 hA4 (fun q _ k => hcr 0 (by decide) q k)).congr (fun i hi => ?_)
      rw [t2.A (by decide), s3 i (by omega), hM1.A (by decide)]
    have hGK4 : GK g4 (nr ρ g1 0) c9 P u k w σ3 := ⟨⟨by rw [F4.K c3', hc1], by rw [nr_lt c3', c2], F4.lt c3', by rw [rc4 0 (by decide), c4], by rw [rc4 1 (by decide), c5], ic4⟩, Or.inr ⟨gz g1, zs, f9, by rw [hg4, R_pR, if_pos ⟨rfl, rfl⟩], hbs, hz, hIP4⟩⟩
    have hL4 : LiP g4 (nr ρ g1 0) 10 lm zs := ⟨e, he.to F4 hA4 (fun q _ k => k.elim (hcr 10 (by decide) q) (hcr 0 (by decide) q))⟩
    have hFr4 : Fr (fun q => ρ q = 6 ∨ 9 ≤ ρ q) g g4 := hF1.trans F4 (fun q _ k => Or.inr (by rw [k, c2]; decide))
    have hM3 : Mf [] [53, 57, 58, 61, 62, 63, 70, 72] σ σ3 := (hM1.trans s2 (fun _ k => k) (by decide)).trans t2 (fun _ k => k) (by decide)
    refine ⟨g4, nr ρ g1 0, 0 + 1 + 1, 0 + zs.length + 3, σ3, w, fl, ?_, ?_, hGC4, hGK4, hL4, hFr4, Ag.rf.trans nr_ag f6.z, hM3, t3, t4, f9, by omega, by omega⟩
    · have hu9 : gR g2 u 0 = x + 1 := by
        have hur : ¬ u = c9 := fun e => hcr 9 (by decide) u hK.1.2.1 e
        rw [F2.R hK1.1.2.2 hur, hK1.2.1.1]
      have kx2 : gK g2 x = 3 := by rw [F2.K hS1.2.2.1, hS1.1]
      have rx2 : gR g2 x 6 = lm + 1 := by rw [F2.R hS1.2.2.1 (fun e => hcr 10 (by decide) x x2 e), hx6]
      have kuu : gK g2 u = 10 := by rw [F2.K hK1.1.2.2, hK1.1.1]
      have hzz : gz (pI g1 c9 3 w) = gz g1 := rfl
      rw [hcomp, e_al, ← hg2, hzz, e_wk k2, rc2 1, c5, e_nn, e_wk kuu, hu9, e_nn, e_wk kx2, rx2, e_nn, v1, e_ca, e_wk k3, ← hg4, e_bp, e_bp]
    · rw [hmod0, s1, e_ob, hmod, t1, e_cb]
  · have hle : w ≤ b := by rw [i_le]; rw [i_lt] at hbw; omega
    rw [if_neg hbw] at hcomp
    rw [if_pos hle] at hmod0
    obtain ⟨fl, σ3, t1, t2, t3, t4⟩ := next_l (σ := σ1) (N := N) hk hps hP1.2.2.1 h72 hNc
    have hb0 : 0 ≤ b.toInt := by rw [i_le] at hle; omega
    have hGC3 : GC g1 ρ a sc v n kk h T u x sa ra oa lm P ps k σ3 := hGC1.to (W := no_) Fr.rf Ag.rf (fun _ _ k => k.elim) ((Mf.rf (LI := []) (LA := [70, 72])).trans t2 (fun _ k => k) (by decide))
    have hGK3 : GK g1 ρ c9 P u k b σ3 := GK.to (σ := σ) ⟨⟨c1, c2, c3, c4, c5, c6⟩, hb⟩ f6 Ag.rf (fun q _ k => by
      rcases hwr q k with e | e
      · exact ⟨by rw [e]; decide, by rw [e]; decide⟩
      · exact ⟨by rw [e]; decide, by rw [e]; decide⟩) (by rw [t2.Af (by decide), f8.Af (by decide), r2.Af (by decide)])
    refine ⟨g1, ρ, 0, 0, σ3, b, fl, hcomp, ?_, hGC3, hGK3, hL1, hF1, Ag.rf, hM1.trans t2 (fun _ k => k) (by decide), t3, t4, hb0, by omega, by omega⟩
    rw [hmod0, hmod, t1, e_cb]
