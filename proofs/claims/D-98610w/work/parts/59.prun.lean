/-! LAWS: a take runs (own work) -/
set_option maxRecDepth 100000
/-- the three arrays agree below t -/
def ArP (g : GS) (sa ra oa : Nat) (σ : MS) (t : Nat) : Prop := ∀ s, s < t → (gI g sa s = m_A σ 61 s ∧ 0 ≤ (m_A σ 61 s).toInt ∧ (m_A σ 61 s).toInt ≤ 999) ∧ (gI g ra s = m_A σ 62 s ∧ 0 ≤ (m_A σ 62 s).toInt ∧ (m_A σ 62 s).toInt ≤ 999) ∧ gI g oa s = m_A σ 63 s ∧ -999 ≤ (m_A σ 63 s).toInt ∧ (m_A σ 63 s).toInt ≤ 999
theorem run_l {g : GS} {ρ : Nat → Nat} {a sc v u x sa ra oa r m n k h : Nat} {σ : MS} (hT : TW g ρ a sc v u x sa ra oa r m n k h σ) :
    ∃ g' σ', X11_run u g = some (u, g') ∧ X4_goesThrough σ = some σ' ∧ Fr (tw_ v sa ra oa) g g' ∧ gz g' = gz g ∧ Mf [] [57, 58, 61, 62, 63] σ σ' ∧ ArP g' sa ra oa σ' ((sm_ (m_A σ 9) n).toInt.toNat + 1) := by
  have hT0 := hT
  obtain ⟨⟨-, -, -, ⟨-, ⟨⟨p1, p2⟩, -⟩, -, -, w1, -, -, w4⟩⟩, -⟩ := hT
  have hsm := sm_rg (L := m_A σ 9) n (fun i hi => (w1 i hi).2) p2
  obtain ⟨T, hTn, hTi, -⟩ := i_nat (x := sm_ (m_A σ 9) n) (by omega)
  have hT6 : T ≤ 600 := by omega
  have hTT : (sm_ (m_A σ 9) n).toInt.toNat = T := by omega
  rw [hTT]
  obtain ⟨ge, σe, m1, m2, m3, m4, m5, m6⟩ : ∃ ge σe, lp_ (fun a : Int32 × GS => X11_run_b2 u a.1 a.2) fu_ (0, g) = some ge ∧ lp_ (fun a : Int32 × MS => X4_goesThrough_b7 (nI T) a.1 a.2) fu_ (0, σ) = some σe ∧ Fr (tw_ v sa ra oa) g ge ∧ gz ge = gz g ∧ Mf [] [57, 58, 61, 62, 63] σ σe ∧ ArP ge sa ra oa σe (T + 1) := by
    refine lp2_t (I := fun j (a : Int32 × GS) (b : Int32 × MS) => ∃ t, a.1 = nI t ∧ b.1 = nI t ∧ t ≤ T + 1 ∧ j = T + 1 - t ∧ Fr (tw_ v sa ra oa) g a.2 ∧ gz a.2 = gz g ∧ Mf [] [57, 58, 61, 62, 63] σ b.2 ∧ ArP a.2 sa ra oa b.2 t)
      (Q := fun ge σe => Fr (tw_ v sa ra oa) g ge ∧ gz ge = gz g ∧ Mf [] [57, 58, 61, 62, 63] σ σe ∧ ArP ge sa ra oa σe (T + 1))
      ?_ fu_ (T + 1) (0, g) (0, σ) ⟨0, rfl, rfl, Nat.zero_le _, rfl, Fr.rf, rfl, Mf.rf, fun s hs => by omega⟩ (by unfold fu_; omega)
    rintro j ⟨x1, g1⟩ ⟨x2, σ1⟩ ⟨t, e1, e2, e3, e4, e5, e6, e7, e8⟩
    simp only at e1 e2 e5 e6 e7 e8 ⊢
    subst e1 e2
    have hT1 := hT0.to e5 e7
    have hT1' := hT1
    obtain ⟨hC, ⟨⟨u1, u2, u3⟩, ⟨f0, f1, f2, f3, f7⟩, ⟨⟨c1, c2, c3, c4⟩, ⟨d1, d2, d3, d4⟩, ⟨o1, o2, o3, o4⟩⟩, hne1, hne2, hne3⟩, ⟨⟨n1, n1'⟩, ⟨n2, n2'⟩, n3, n3'⟩, hr, hSt, ⟨hm, hm6⟩, hR⟩ := hT1
    have hC' := hC
    obtain ⟨⟨a1, a2, a3, a4, a5⟩, ⟨b1, b2, b3, b4⟩, hS5, ⟨s1, s2, s3, s4, s5⟩, ⟨⟨P1, P2⟩, ⟨P3, P4⟩, P5, P6⟩, ⟨q1, q2, q3⟩, -, v1, v2, v3, v4⟩ := hC
    obtain ⟨r1, r2, r3, r4, r5, r6, r7⟩ := hR
    have hx3 := hSt.1
    have hxS := hSt.2.2.2.1
    have e9 : m_A σ1 9 = m_A σ 9 := e7.Af (by decide)
    have hlast : gI g1 sc 6 = nI T := by rw [s5, e9, hTn]
    have hti : t ≤ T → (nI t).toInt = (t : Int) := fun _ => i_n (by omega)
    by_cases ht : t ≤ T
    · have hts := hti ht
      have t1 : t < 601 := by omega
      -- where she is, where he saw a face
      have hisr : 12 ≤ (ic_ (m_A σ1 8) (m_A σ1 9) n (m_I σ1 1) (m_A σ1 53 4) (m_I σ1 59) (nI t) (wy_ (m_A σ1 10) (m_A σ1 11) (nI t) 0 k)).toInt ∧ (ic_ (m_A σ1 8) (m_A σ1 9) n (m_I σ1 1) (m_A σ1 53 4) (m_I σ1 59) (nI t) (wy_ (m_A σ1 10) (m_A σ1 11) (nI t) 0 k)).toInt ≤ 480 := ic_rg P2 v1 v3 (by omega) (by omega) (by omega)
      obtain ⟨xi, hxi⟩ : ∃ xi, xi = ic_ (m_A σ1 8) (m_A σ1 9) n (m_I σ1 1) (m_A σ1 53 4) (m_I σ1 59) (nI t) (wy_ (m_A σ1 10) (m_A σ1 11) (nI t) 0 k) := ⟨_, rfl⟩
      rw [← hxi] at hisr
      have hlr := lt_rg (late := m_A σ1 53 1) (t := nI t) (by omega) (by omega)
      have hlr2 : (lt_ (m_A σ1 53 1) (nI t)).toInt ≤ 1000 := by
        unfold lt_
        split
        · rw [i_sub (by omega) (by omega)]; omega
        · decide
      have hpr : 12 ≤ (pc_ σ1 n k (nI t)).toInt ∧ (pc_ σ1 n k (nI t)).toInt ≤ 480 := ic_rg P2 v1 v3 (by omega) (by omega) (by omega)
      obtain ⟨p, hp⟩ : ∃ p, p = pc_ σ1 n k (nI t) := ⟨_, rfl⟩
      rw [← hp] at hpr
      have hjr := jd_rg (S := m_A σ1 53) (m := m) hpr
      obtain ⟨xj, hxj⟩ : ∃ xj, xj = jd_ (m_A σ1 53) m p := ⟨_, rfl⟩
      rw [← hxj] at hjr
      -- A
      obtain ⟨ri, gA, σA, A1, A2, A3, A4, A5, A6⟩ := turn_l hC' hisr
      have hFA : Fr (tw_ v sa ra oa) g1 gA := A3.mono (fun _ _ k => Or.inl k)
      have hTA : TW gA ρ a sc v u x sa ra oa r m n k h σ1 := hT1'.to hFA Mf.rf
      -- B
      obtain ⟨rs, gB, σB, B1, B2, B3, B4, B5, B6⟩ := turn_l hTA.1 hjr
      have hFB : Fr (tw_ v sa ra oa) gA gB := B3.mono (fun _ _ k => Or.inl k)
      have hMB : Mf [] [57, 58, 61, 62, 63] σ1 σB := B5.mono (fun _ k => k) (by decide)
      have hMB' : Mf [] [57, 58, 61, 62, 63] σ1 (s_A σB 61 t rs) := hMB.trans (Mf.sA (LI := []) (LA := [57, 58, 61, 62, 63]) (by decide)) (fun _ k => k) (fun _ k => k)
      -- C
      have hTC : TW g1 ρ a sc v u x sa ra oa r m n k h (s_A σB 61 t rs) := hT1'.to Fr.rf hMB'
      obtain ⟨ri', gC, σC, C1, C2, C3, C4, C5, C6⟩ := turn_l hTC.1 hisr
      have hri : ri' = ri := by
        rw [A1] at C1
        cases C1
        rfl
      rw [hri] at C2
      have hMC : Mf [] [57, 58, 61, 62, 63] σ1 σC := hMB'.trans C5 (fun _ k => k) (by decide)
      have hFs : Fr (tw_ v sa ra oa) g1 (pI gB sa t rs) := (hFA.trans hFB (fun _ _ k => k)).trans (Fr.pI (W := tw_ v sa ra oa) (Or.inr (Or.inl rfl))) (fun _ _ k => k)
      have hTD : TW (pI gB sa t rs) ρ a sc v u x sa ra oa r m n k h σC := hT1'.to hFs hMC
      have zD : gz (pI gB sa t rs) = gz g1 := by rw [z_pI, B4, A4]
      -- the model's body
      have hsaw : X4_sawAt (nI t) σ1 = some p := by rw [hp]; exact X4_sawAt_l P1 P2 P3 P4 v1 v3 (by omega) (by omega) (by omega)
      have hjud : X4_judged p σ1 = some xj := by rw [hxj]; exact X4_judged_l hm hm6 r7 (by omega)
      have hwho : X4_whoseIn (nI t) (s_A σB 61 t rs) = some (wy_ (m_A σ1 10) (m_A σ1 11) (nI t) 0 k) := by
        unfold X4_whoseIn
        rw [X4_whoseBy_l (by rw [hMB'.I (by decide)]; exact P3) P4, e_ob, hMB'.Af (j := 10) (by decide), hMB'.Af (j := 11) (by decide)]
      have hinc : X4_inchesOf (nI t) (wy_ (m_A σ1 10) (m_A σ1 11) (nI t) 0 k) (s_A σB 61 t rs) = some xi := by
        rw [X4_inchesOf_l (n := n) (by rw [hMB'.I (by decide)]; exact P1) P2 (by rw [hMB'.Af (j := 8) (by decide), hMB'.Af (j := 9) (by decide)]; exact v1) (by rw [hMB'.I (by decide)]; exact v3) (by rw [hMB'.I (by decide)]; omega) (by omega), hMB'.Af (j := 8) (by decide), hMB'.Af (j := 9) (by decide), hMB'.I (k := 1) (by decide), hMB'.I (k := 59) (by decide), hMB'.A (j := 53) (by decide), hxi]
      -- the component's body
      have hhis : X2_isHis sc (nI t - m_I σ1 60) g1 = some (wy_ (m_A σ1 10) (m_A σ1 11) (nI t) (m_I σ1 60) k) := by
        rw [X2_isHis_l s1 q2 P4 v2, wy_sh (by omega) (by omega) k (fun i hi => (v2 i hi).1)]
      have hhis0 : X2_isHis sc (nI t) g1 = some (wy_ (m_A σ1 10) (m_A σ1 11) (nI t) 0 k) := X2_isHis_l s1 q2 P4 v2
      have hin1 : X11_inches u (nI t) (wy_ (m_A σ1 10) (m_A σ1 11) (nI t) 0 k) g1 = some xi := by
        rw [X11_inches_l u1 a1 s1 hx3 f7 a4 f0 q1 P2 v1 (by rw [n1]; omega) (by omega), hxi, s4, n1, hxS.2.2.2.2.2]
      have hTA0 := hTA
      obtain ⟨⟨⟨Aa1, Aa2, Aa3, Aa4, Aa5⟩, -, -, ⟨As1, As2, As3, As4, As5⟩, -, ⟨Aq1, -, -⟩, -, -⟩, ⟨⟨Au1, -, -⟩, ⟨Af0, Af1, Af2, Af3, Af7⟩, -, -⟩, ⟨⟨An1, -⟩, -⟩, -, ASt, -, -⟩ := hTA0
      have hin2 : X11_inches u (lt_ (m_A σ1 53 1) (nI t)) (wy_ (m_A σ1 10) (m_A σ1 11) (nI t) (m_I σ1 60) k) gA = some p := by
        rw [X11_inches_l Au1 Aa1 As1 ASt.1 Af7 Aa4 Af0 Aq1 P2 v1 (by rw [An1]; omega) (by omega), hp, As4, An1, ASt.2.2.2.1.2.2.2.2.2]
        rfl
      have hju : X11_judged u p gA = some xj := by rw [hxj]; exact X11_judged_l Au1 Af0 ASt
      have hjm : jmax_ 0 (nI t - gI gA x 1) = lt_ (m_A σ1 53 1) (nI t) := by rw [ASt.2.2.2.1.2.1]; exact hlr.2
      obtain ⟨⟨⟨Da1, Da2, Da3, Da4, Da5⟩, -, -, -⟩, ⟨⟨Du1, Du2, Du3⟩, ⟨Df0, Df1, Df2, Df3, Df7⟩, ⟨⟨Dc1, Dc2, Dc3, Dc4⟩, ⟨Dd1, Dd2, Dd3, Dd4⟩, ⟨Do1, Do2, Do3, Do4⟩⟩, -⟩, -, -, DSt, -, -⟩ := hTD
      have hsav : sa ≠ v := by intro q; rw [q, b3] at c3; omega
      have hrav : ra ≠ v := by intro q; rw [q, b3] at d3; omega
      have hoav : oa ≠ v := by intro q; rw [q, b3] at o3; omega
      have eD : ∀ q i, q < gz g1 → q ≠ v → gI (pI gB sa t rs) q i = if q = sa ∧ i = t then rs else gI g1 q i := by
        intro q i hq hqv
        rw [I_pI, B3.I (show q < gz gA by rw [A4]; exact hq) hqv, A3.I hq hqv]
      have eC : ∀ j i, j = 61 ∨ j = 62 ∨ j = 63 → m_A σC j i = if j = 61 ∧ i = t then rs else m_A σ1 j i := by
        rintro j i (rfl | rfl | rfl) <;> rw [C5.A (by decide), rA_sA, B5.A (by decide)]
      have hrsr : 0 ≤ rs.toInt ∧ rs.toInt ≤ 999 := B6
      have hrir : 0 ≤ ri.toInt ∧ ri.toInt ≤ 999 := A6
      have fin : ∀ (g4 : GS) (σ4 : MS) (rv : Int32), Fr (fun q => q = v) (pI gB sa t rs) g4 → gz g4 = gz (pI gB sa t rs) → Mf [] [57, 58] σC σ4 → 0 ≤ rv.toInt ∧ rv.toInt ≤ 999 →
          ∃ g5 σ5, X11_run_j152 u (nI t) ri ra (nI t) rv g4 = some (.inl (nI t + 1, g5)) ∧ X4_goesThrough_j110 (nI T) (nI t) ri (s_A σ4 62 t rv) = some (.inl (nI t + 1, σ5)) ∧ Fr (tw_ v sa ra oa) g g5 ∧ gz g5 = gz g ∧ Mf [] [57, 58, 61, 62, 63] σ σ5 ∧ ArP g5 sa ra oa σ5 (t + 1) := by
        intro g4 σ4 rv k1 k2 k3 k4
        have kI : ∀ q i, q < gz g1 → q ≠ v → gI g4 q i = if q = sa ∧ i = t then rs else gI g1 q i := fun q i hq hqv => by rw [k1.I (by rw [zD]; exact hq) hqv, eD q i hq hqv]
        have kA : ∀ j i, j = 61 ∨ j = 62 ∨ j = 63 → m_A σ4 j i = if j = 61 ∧ i = t then rs else m_A σ1 j i := fun j i hj => by
          rw [k3.A (by rcases hj with rfl | rfl | rfl <;> decide), eC j i hj]
        have kR : ∀ i, gR g4 u i = gR (pI gB sa t rs) u i := fun i => k1.R Du3 (by intro q; rw [q, b3] at u2; omega) i
        have e5' : (ri - rv).toInt = ri.toInt - rv.toInt := i_sub (by omega) (by omega)
        refine ⟨pI (pI g4 ra t rv) oa t (ri - rv), s_A (s_A σ4 62 t rv) 63 t (ri - rv), ?_, ?_, ?_, ?_, ?_, ?_⟩
        · unfold X11_run_j152
          rw [e_wk (by rw [k1.K Dd4, Dd1]), e_inN (by rw [k1.N Dd4, Dd2]; exact t1) (by rw [k1.N Dd4, Dd2]; omega), nI_clamp (by omega), e_wk (by rw [K_pI, k1.K Du3, Du1]), R_pI, kR, Df3, e_nn, kR, Df2, e_nn, e_rk (by rw [K_pI, k1.K Dd4, Dd1]), e_inN (by rw [N_pI, k1.N Dd4, Dd2]; exact t1) (by rw [N_pI, k1.N Dd4, Dd2]; omega), e_wk (by rw [K_pI, k1.K Do4, Do1]), e_inN (by rw [N_pI, k1.N Do4, Do2]; exact t1) (by rw [N_pI, k1.N Do4, Do2]; omega), I_pI, if_pos ⟨rfl, rfl⟩]
        · unfold X4_goesThrough_j110
          rw [e_inN t1 (by omega), e_inN t1 (by omega), nI_clamp (by omega), rA_sA, if_pos ⟨rfl, rfl⟩]
        · refine ((e5.trans hFs (fun _ _ k => k)).trans k1 (fun _ _ k => Or.inl k)).trans ((Fr.pI (W := tw_ v sa ra oa) (Or.inr (Or.inr (Or.inl rfl)))).trans (Fr.pI (W := tw_ v sa ra oa) (Or.inr (Or.inr (Or.inr rfl)))) (fun _ _ k => k)) (fun _ _ k => k)
        · rw [z_pI, z_pI, k2, zD, e6]
        · exact ((e7.trans hMC (fun _ k => k) (fun _ k => k)).trans k3 (fun _ k => k) (by decide)).trans ((Mf.sA (LI := []) (LA := [57, 58, 61, 62, 63]) (by decide)).trans (Mf.sA (LI := []) (LA := [57, 58, 61, 62, 63]) (by decide)) (fun _ k => k) (fun _ k => k)) (fun _ k => k) (fun _ k => k)
        · intro s hs
          have x1 : gI (pI (pI g4 ra t rv) oa t (ri - rv)) sa s = if s = t then rs else gI g1 sa s := by
            rw [I_pI, if_neg (by rintro ⟨q, -⟩; exact hne2 q), I_pI, if_neg (by rintro ⟨q, -⟩; exact hne1 q), kI sa s c4 hsav]
            by_cases q : s = t
            · rw [if_pos q, if_pos ⟨rfl, q⟩]
            · rw [if_neg q, if_neg (by rintro ⟨-, k⟩; exact q k)]
          have x2 : gI (pI (pI g4 ra t rv) oa t (ri - rv)) ra s = if s = t then rv else gI g1 ra s := by
            rw [I_pI, if_neg (by rintro ⟨q, -⟩; exact hne3 q), I_pI]
            by_cases q : s = t
            · rw [if_pos q, if_pos ⟨rfl, q⟩]
            · rw [if_neg q, if_neg (by rintro ⟨-, k⟩; exact q k), kI ra s d4 hrav, if_neg (by rintro ⟨k, -⟩; exact hne1 k.symm)]
          have x3 : gI (pI (pI g4 ra t rv) oa t (ri - rv)) oa s = if s = t then ri - rv else gI g1 oa s := by
            rw [I_pI]
            by_cases q : s = t
            · rw [if_pos q, if_pos ⟨rfl, q⟩]
            · rw [if_neg q, if_neg (by rintro ⟨-, k⟩; exact q k), I_pI, if_neg (by rintro ⟨k, -⟩; exact hne3 k.symm), kI oa s o4 hoav, if_neg (by rintro ⟨k, -⟩; exact hne2 k.symm)]
          have y1 : m_A (s_A (s_A σ4 62 t rv) 63 t (ri - rv)) 61 s = if s = t then rs else m_A σ1 61 s := by
            rw [rA_sA, if_neg (by rintro ⟨q, -⟩; omega), rA_sA, if_neg (by rintro ⟨q, -⟩; omega), kA 61 s (Or.inl rfl)]
            by_cases q : s = t
            · rw [if_pos q, if_pos ⟨rfl, q⟩]
            · rw [if_neg q, if_neg (by rintro ⟨-, k⟩; exact q k)]
          have y2 : m_A (s_A (s_A σ4 62 t rv) 63 t (ri - rv)) 62 s = if s = t then rv else m_A σ1 62 s := by
            rw [rA_sA, if_neg (by rintro ⟨q, -⟩; omega), rA_sA]
            by_cases q : s = t
            · rw [if_pos q, if_pos ⟨rfl, q⟩]
            · rw [if_neg q, if_neg (by rintro ⟨-, k⟩; exact q k), kA 62 s (Or.inr (Or.inl rfl)), if_neg (by rintro ⟨k, -⟩; omega)]
          have y3 : m_A (s_A (s_A σ4 62 t rv) 63 t (ri - rv)) 63 s = if s = t then ri - rv else m_A σ1 63 s := by
            rw [rA_sA]
            by_cases q : s = t
            · rw [if_pos q, if_pos ⟨rfl, q⟩]
            · rw [if_neg q, if_neg (by rintro ⟨-, k⟩; exact q k), rA_sA, if_neg (by rintro ⟨k, -⟩; omega), kA 63 s (Or.inr (Or.inr rfl)), if_neg (by rintro ⟨k, -⟩; omega)]
          rw [x1, x2, x3, y1, y2, y3]
          by_cases q : s = t
          · rw [if_pos q, if_pos q, if_pos q, if_pos q, if_pos q, if_pos q]
            exact ⟨⟨rfl, hrsr⟩, ⟨rfl, k4⟩, rfl, by omega, by omega⟩
          · rw [if_neg q, if_neg q, if_neg q, if_neg q, if_neg q, if_neg q]
            exact e8 s (by omega)
      have hBk : gK gB sa = 100 ∧ gN gB sa = 601 := ⟨Dc1, Dc2⟩
      refine Or.inl ?_
      have bodyX : ∀ (K : Option ((Int32 × GS) ⊕ GS)), (if nI t = 0 then X11_run_j152 u (nI t) ri ra (nI t) ri (pI gB sa t rs) else (nn_ (gR (pI gB sa t rs) u 2) fun b55 => rk_ (pI gB sa t rs) b55 100 <| in_ (nI t - 1) (gN (pI gB sa t rs) b55) <| cb_ (X11_goal u (nI t) p (pI gB sa t rs)) fun r61 g60 => wk_ g60 u 10 <| nn_ (gR g60 u 2) fun b63 => rk_ g60 b63 100 <| in_ (nI t - 1) (gN g60 b63) <| nn_ (gR g60 u 0) fun b67 => wk_ g60 b67 3 <| nn_ (gR g60 u 0) fun b70 => wk_ g60 b70 3 <| ob_ (X1_kept (r61 - (gI g60 b63 (nI t - 1).toNatClampNeg)) (-(gI g60 b67 2)) (gI g60 b70 2)) fun r74 => X11_run_j152 u (nI t) ri ra (nI t) ((gI (pI gB sa t rs) b55 (nI t - 1).toNatClampNeg) + r74) g60)) = K → X11_run_b2 u (nI t) g1 = K := by
        intro K hK
        unfold X11_run_b2
        rw [e_wk u1, f7, e_nn, e_wk a1, a4, e_nn, e_wk s1, hlast, if_neg (nI_nlt ht (by omega)), e_nn, e_wk a1, a4, e_nn, e_wk s1, n3, hhis, e_ob, e_nn, e_nn, e_wk a1, a4, e_nn, e_wk s1, hhis0, e_ob, hin1, e_ob, e_wk a1, A1, e_cb, e_wk Au1, Af0, e_nn, e_wk ASt.1, hjm, hin2, e_ob, Af1, e_nn, Af7, e_nn, hju, e_ob, e_wk Aa1, B1, e_cb, e_wk (by exact hBk.1), e_inN (by rw [hBk.2]; exact t1) (by rw [hBk.2]; omega), nI_clamp (by omega), e_wk (by exact Du1), Df2, e_nn]
        rw [Df2] at hK
        exact hK
      have bodyM : ∀ (K : Option ((Int32 × MS) ⊕ MS)), (if nI t = 0 then in_ 0 601 <| X4_goesThrough_j110 (nI T) (nI t) ri (s_A σC 62 ((0 : Int32).toNatClampNeg) ri) else cb_ (X4_shouldBe (nI t) σC) fun r21 σ22 => in_ 2 12 <| in_ (nI t - 1) 601 <| in_ (nI t - 1) 601 <| ob_ (X4_bounded (r21 - (m_A σ22 62 ((nI t - 1).toNatClampNeg))) (0 - (m_A σ22 53 ((2 : Int32).toNatClampNeg))) (m_A σ22 53 ((2 : Int32).toNatClampNeg))) fun r26 => in_ (nI t) 601 <| X4_goesThrough_j110 (nI T) (nI t) ri (s_A σ22 62 (nI t).toNatClampNeg ((m_A σ22 62 ((nI t - 1).toNatClampNeg)) + r26))) = K → X4_goesThrough_b7 (nI T) (nI t) σ1 = K := by
        intro K hK
        unfold X4_goesThrough_b7
        rw [if_neg (nI_nlt ht (by omega)), hsaw, e_ob, hjud, e_ob, B2, e_cb, e_inN t1 (by omega)]
        rw [show (nI t).toNatClampNeg = t from nI_clamp (by omega)] at hK ⊢
        rw [hwho, e_ob, hinc, e_ob, C2, e_cb]
        exact hK
      by_cases ht0 : t = 0
      · subst ht0
        obtain ⟨g5, σ5, w1, w2, w3, w4, w5, w6⟩ := fin (pI gB sa 0 rs) σC ri Fr.rf rfl Mf.rf hrir
        refine ⟨(nI 0 + 1, g5), (nI 0 + 1, σ5), j - 1, by omega, bodyX _ ?_, bodyM _ ?_, 1, rfl, rfl, by omega, by omega, w3, w4, w5, w6⟩
        · rw [if_pos nI_0, w1]
        · rw [if_pos nI_0, e_i0 (by omega) (by omega), cl_0, w2]
      · obtain ⟨t', rfl⟩ : ∃ t', t = t' + 1 := ⟨t - 1, by omega⟩
        have hTD' : TW (pI gB sa (t' + 1) rs) ρ a sc v u x sa ra oa r m n k h σC := hT1'.to hFs hMC
        have hpc : pc_ σC n k (nI (t' + 1)) = p := by
          rw [hp]
          unfold pc_
          rw [hMC.Af (j := 8) (by decide), hMC.Af (j := 9) (by decide), hMC.Af (j := 10) (by decide), hMC.Af (j := 11) (by decide), hMC.I (k := 1) (by decide), hMC.I (k := 59) (by decide), hMC.I (k := 60) (by decide), hMC.Af (j := 53) (by decide)]
        have h8 := e8 t' (by omega)
        have hg61 : gI (pI gB sa (t' + 1) rs) sa (t' + 1) = m_A σC 61 (t' + 1) := by rw [eD sa _ c4 hsav, eC 61 _ (Or.inl rfl), if_pos ⟨rfl, rfl⟩, if_pos ⟨rfl, rfl⟩]
        have hg61' : m_A σC 61 (t' + 1) = rs := by rw [eC 61 _ (Or.inl rfl), if_pos ⟨rfl, rfl⟩]
        obtain ⟨w, g4, σ4, G1, G2, G3, G4, G5, G6⟩ := goal_l hTD' (t := t') (by omega) hg61 (by rw [hg61']; exact hrsr)
          (by rw [eD sa _ c4 hsav, eC 61 _ (Or.inl rfl), if_neg (by rintro ⟨-, q⟩; omega), if_neg (by rintro ⟨-, q⟩; omega)]; exact h8.1.1)
          (by rw [eD ra _ d4 hrav, eC 62 _ (Or.inr (Or.inl rfl)), if_neg (by rintro ⟨-, q⟩; omega), if_neg (by rintro ⟨q, -⟩; omega)]; exact h8.2.1.1)
        rw [hpc] at G1
        have hT4 : TW g4 ρ a sc v u x sa ra oa r m n k h σ4 := hTD'.to (G3.mono (fun _ _ k => Or.inl k)) (G5.mono (fun _ k => k) (by decide))
        obtain ⟨-, ⟨⟨Gu1, Gu2, Gu3⟩, ⟨Gf0, Gf1, Gf2, Gf3, Gf7⟩, ⟨-, ⟨Gd1, Gd2, Gd3, Gd4⟩, -⟩, -⟩, -, -, GSt, -, GR⟩ := hT4
        have hW := GR.2.2.1
        have e53 : m_A σ4 53 = m_A σ1 53 := by rw [G5.Af (by decide), hMC.Af (by decide)]
        have er : gI g4 ra t' = gI g1 ra t' := by rw [G3.I (by rw [zD]; exact d4) hrav, eD ra _ d4 hrav, if_neg (by rintro ⟨-, q⟩; omega)]
        have er' : gI (pI gB sa (t' + 1) rs) ra t' = gI g1 ra t' := by rw [eD ra _ d4 hrav, if_neg (by rintro ⟨-, q⟩; omega)]
        have em : m_A σ4 62 t' = gI g1 ra t' := by rw [G5.A (by decide), eC 62 _ (Or.inr (Or.inl rfl)), if_neg (by rintro ⟨q, -⟩; omega), h8.2.1.1]
        have hrr : 0 ≤ (gI g1 ra t').toInt ∧ (gI g1 ra t').toInt ≤ 999 := by rw [h8.2.1.1]; exact h8.2.1.2
        have en : (0 : Int32) - m_A σ4 53 2 = -(m_A σ4 53 2) := Int32.zero_sub _
        have ew : (w - gI g1 ra t').toInt = w.toInt - (gI g1 ra t').toInt := i_sub (by omega) (by omega)
        have enn : (-(m_A σ4 53 2)).toInt = -(m_A σ4 53 2).toInt := i_neg (by omega)
        have hbd := bd_rg (v := w - gI g1 ra t') (a := -(m_A σ4 53 2)) (b := m_A σ4 53 2) (by rw [enn]; omega)
        have hring : 0 ≤ (gI g1 ra t' + bd_ (w - gI g1 ra t') (-(m_A σ4 53 2)) (m_A σ4 53 2)).toInt ∧ (gI g1 ra t' + bd_ (w - gI g1 ra t') (-(m_A σ4 53 2)) (m_A σ4 53 2)).toInt ≤ 999 := by
          rw [enn] at hbd
          rw [i_add (by omega) (by omega)]
          unfold bd_ at hbd ⊢
          simp only [i_le, ew, enn] at hbd ⊢
          split at hbd
          · rename_i z1
            rw [if_pos z1]
            split at hbd
            · rename_i z2
              rw [if_pos z2, ew]
              omega
            · rename_i z2
              rw [if_neg z2]
              omega
          · rename_i z1
            rw [if_neg z1, enn]
            omega
        obtain ⟨g5, σ5, w1, w2, w3, w4, w5, w6⟩ := fin g4 σ4 _ G3 G4 G5 hring
        refine ⟨(nI (t' + 1) + 1, g5), (nI (t' + 1) + 1, σ5), j - 1, by omega, bodyX _ ?_, bodyM _ ?_, t' + 1 + 1, nI_1 _, nI_1 _, by omega, by omega, w3, w4, w5, w6⟩
        · rw [if_neg (nI_ne0 (by omega) (by omega)), Df2, e_nn, e_rk (by rw [Dd1]), nI_pred, e_inN (by rw [Dd2]; omega) (by rw [Dd2]; omega), G1, e_cb, e_wk Gu1, Gf2, e_nn, e_rk (by rw [Gd1]), e_inN (by rw [Gd2]; omega) (by rw [Gd2]; omega), Gf0, e_nn, e_wk GSt.1, e_nn, e_wk GSt.1, GSt.2.2.2.1.2.2.1, nI_clamp (by omega), er, er', X1_kept_l (by rw [i_le, enn]; omega), e_ob, w1]
        · rw [if_neg (nI_ne0 (by omega) (by omega)), G2, e_cb, e_i2 (by omega) (by omega), nI_pred, e_inN (by omega) (by omega), e_inN (by omega) (by omega), cl_2, nI_clamp (by omega), em, en, X4_bounded_l, e_ob, e_inN (by omega) (by omega), nI_clamp (by omega), w2]
    · have htT : t = T + 1 := by omega
      subst htT
      refine Or.inr ⟨g1, σ1, ?_, ?_, e5, e6, e7, e8⟩
      · show X11_run_b2 u (nI (T + 1)) g1 = _
        unfold X11_run_b2
        rw [e_wk u1, f7, e_nn, e_wk a1, a4, e_nn, e_wk s1, hlast, if_pos (nI_lt (by omega) (by omega))]
      · show X4_goesThrough_b7 (nI T) (nI (T + 1)) σ1 = _
        unfold X4_goesThrough_b7
        rw [if_pos (nI_lt (by omega) (by omega))]
  refine ⟨ge, σe, ?_, ?_, m3, m4, m5, m6⟩
  · unfold X11_run
    rw [m1, e_ob]
  · unfold X4_goesThrough
    rw [X4_last_l p1 p2, e_ob, hTn, m2, e_ob]
