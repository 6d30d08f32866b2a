/-! LAWS: takes run again and again: what they need (own work) -/
set_option maxRecDepth 100000
/-- run().sharp() -/
theorem TW.rs {g : GS} {ρ : Nat → Nat} {a sc v u x sa ra oa r m n k h T : Nat} {σ : MS} (hT : TW g ρ a sc v u x sa ra oa r m n k h σ) (hs : sm_ (m_A σ 9) n = nI T) (hT6 : T ≤ 600) :
    ∃ w g' σ', X11_run u g = some (u, g') ∧ X11_sharp u g' = some w ∧ X4_goesThrough σ = some σ' ∧ X4_takesSharp σ = some (w, σ') ∧ AR g' ρ a sc v u x sa ra oa r m n k h T σ' ∧ Fr (tw_ v sa ra oa) g g' ∧ gz g' = gz g ∧ Mf [] [57, 58, 61, 62, 63] σ σ' ∧ 0 ≤ w.toInt ∧ w.toInt ≤ 2000 := by
  obtain ⟨g', σ', b1, b2, b3, b4, b5, b6⟩ := run_l hT
  have hTT : (sm_ (m_A σ 9) n).toInt.toNat + 1 = T + 1 := by rw [hs, i_n (by omega)]; omega
  rw [hTT] at b6
  have hAR : AR g' ρ a sc v u x sa ra oa r m n k h T σ' := ⟨hT.to b3 b5, b6, by rw [b5.Af (by decide)]; exact hs, hT6⟩
  have hx := hAR.x
  have hsh := X11_sharp_l hAR.of hx.1 hx.2.1
  rw [hx.2.2.1] at hsh
  have hc := cnt_rg (f := m_A σ' 63) (hole := m_A σ' 53 0) (T + 1) (by omega)
  refine ⟨cnt_ (m_A σ' 63) (m_A σ' 53 0) T, g', σ', b1, hsh, b2, ?_, hAR, b3, b4, b5, hc.1, ?_⟩
  · unfold X4_takesSharp
    rw [b2, e_ob, X4_sharpMany_l hAR.la, e_ob]
  · have := hc.2
    show (it_ (cF (m_A σ' 63) (m_A σ' 53 0)) 0 (T + 1)).toInt ≤ 2000
    omega
/-- a number of the take is set -/
theorem TW.pu {g : GS} {ρ : Nat → Nat} {a sc v u x sa ra oa r m n k h : Nat} {σ σ' : MS} {f : Nat} {w : Int32} (hT : TW g ρ a sc v u x sa ra oa r m n k h σ) (hn : TnP (pI g u f w) u σ') (hM : Mf [59, 60, 64] [] σ σ') : TW (pI g u f w) ρ a sc v u x sa ra oa r m n k h σ' := by
  obtain ⟨hC, hK, hN, ⟨hr, hS, ⟨hm, hm6⟩, hR⟩⟩ := hT
  have hF : Fr (fun q => q = u) g (pI g u f w) := Fr.pI rfl
  have hu1 := hK.1.1
  have hu2 := hK.1.2.1
  have hau : ¬ a = u := by intro q; have := hC.1.1; rw [q, hu1] at this; omega
  refine ⟨hC.to hF Ag.rf (fun q _ k k' => by rw [k', hu2] at k; omega) ⟨rfl, rfl⟩ hM (by decide) (by decide), hK.to hF Ag.rf (fun _ => rfl), hn, hr, ?_, ⟨by rw [hM.I (by decide)]; exact hm, hm6⟩, ?_⟩
  · rw [hM.Af (by decide)]
    exact hS.to hF Ag.rf (fun q _ k k' => by rw [k', hu2] at k; omega)
  · rw [hM.Af (by decide)]; exact hR
theorem TnP.at4 {g : GS} {u : Nat} {σ : MS} {w : Int32} (h : TnP g u σ) (hw : 0 ≤ w.toInt ∧ w.toInt ≤ 100) : TnP (pI g u 4 w) u (s_I σ 59 w) := by
  obtain ⟨h1, h2, h3⟩ := h
  unfold TnP
  simp [I_pI, rI_sI]
  exact ⟨hw, h2, h3⟩
theorem TnP.at5 {g : GS} {u : Nat} {σ : MS} {w : Int32} (h : TnP g u σ) (hw : -24 ≤ w.toInt ∧ w.toInt ≤ 24) : TnP (pI g u 5 w) u (s_I σ 64 w) := by
  obtain ⟨h1, h2, h3⟩ := h
  unfold TnP
  simp [I_pI, rI_sI]
  exact ⟨h1, hw, h3⟩
theorem TnP.at6 {g : GS} {u : Nat} {σ : MS} {w : Int32} (h : TnP g u σ) (hw : -24 ≤ w.toInt ∧ w.toInt ≤ 24) : TnP (pI g u 6 w) u (s_I σ 60 w) := by
  obtain ⟨h1, h2, h3⟩ := h
  unfold TnP
  simp [I_pI, rI_sI]
  exact ⟨h1, h2, hw⟩
/-- a field of the take's own settings is set -/
theorem TW.px {g : GS} {ρ : Nat → Nat} {a sc v u x sa ra oa m n k h : Nat} {σ : MS} {f f' : Nat} {w : Int32} (hT : TW g ρ a sc v u x sa ra oa 10 m n k h σ) (hk : (f = 0 ∧ f' = 0) ∨ (f = 1 ∧ f' = 1) ∨ (f = 2 ∧ f' = 2) ∨ (f = 3 ∧ f' = 3) ∨ (f = 4 ∧ f' = 5) ∨ (f = 5 ∧ f' = 4)) (hR' : RowOK (fun i => if i = f' then w else m_A σ 53 i) m h) :
    TW (pI g x f w) ρ a sc v u x sa ra oa 10 m n k h (s_A σ 53 f' w) := by
  obtain ⟨hC, hK, hN, ⟨hr, hS, ⟨hm, hm6⟩, hR⟩⟩ := hT
  have hF : Fr (fun q => q = x) g (pI g x f w) := Fr.pI rfl
  have hM : Mf [] [53] σ (s_A σ 53 f' w) := Mf.sA (by decide)
  have hx1 := hS.1
  have hx2 := hS.2.1
  have hux : ¬ u = x := by intro q; have := hK.1.1; rw [q, hx1] at this; omega
  have hrow : m_A (s_A σ 53 f' w) 53 = fun i => if i = f' then w else m_A σ 53 i := by
    funext i
    rw [rA_sA]
    by_cases q : i = f'
    · rw [if_pos ⟨rfl, q⟩, if_pos q]
    · rw [if_neg (by rintro ⟨-, k⟩; exact q k), if_neg q]
  refine ⟨hC.to hF Ag.rf (fun q _ k k' => by rw [k', hx2] at k; omega) ⟨rfl, rfl⟩ hM (by decide) (by decide), hK.to hF Ag.rf (fun _ => rfl), ?_, hr, ?_, ⟨hm, hm6⟩, ?_⟩
  · obtain ⟨⟨n1, n1'⟩, ⟨n2, n2'⟩, n3, n3'⟩ := hN
    exact ⟨⟨by rw [I_pI, if_neg (by rintro ⟨q, -⟩; exact hux q), n1]; rfl, n1'⟩, ⟨by rw [I_pI, if_neg (by rintro ⟨q, -⟩; exact hux q), n2]; rfl, n2'⟩, by rw [I_pI, if_neg (by rintro ⟨q, -⟩; exact hux q), n3]; rfl, n3'⟩
  · rw [hrow]
    exact hS.put hk
  · rw [hrow]; exact hR'
theorem RowOK.put {S : Nat → Int32} {m h f : Nat} {w : Int32} (hR : RowOK S m h) (hw : (f = 1 ∧ 0 ≤ w.toInt ∧ w.toInt ≤ 24) ∨ (f = 2 ∧ 1 ≤ w.toInt ∧ w.toInt ≤ 90) ∨ (f = 3 ∧ -30 ≤ w.toInt ∧ w.toInt ≤ 30) ∨ (f = 5 ∧ -1 ≤ w.toInt ∧ w.toInt < h) ∨ (f = 0 ∧ 1 ≤ w.toInt ∧ w.toInt ≤ 60) ∨ (f = 4 ∧ 0 ≤ w.toInt ∧ w.toInt ≤ 200) ∨ (6 ≤ f ∧ 12 ≤ w.toInt ∧ w.toInt ≤ 480)) : RowOK (fun i => if i = f then w else S i) m h := by
  obtain ⟨r0, r1, r2, r3, r4, r5, r6⟩ := hR
  refine ⟨?_, ?_, ?_, ?_, ?_, ?_, fun i hi => ?_⟩
  all_goals (simp only; split <;> first | omega | skip)
  exact r6 i hi
/-- a new take over a copy of the settings in force -/
theorem newtakec {a o sc v n k h x m T : Nat} {g : GS} {ρ : Nat → Nat} {σ : MS} (hp : RelP a o sc v n k h x m T g ρ σ) :
    ∃ g1 g2 ρ2 dc ds, X3_copy x (nw_ g 10 8) = some ((gz g + 1, g1), dc, ds) ∧ X11_init (gz g) a (gz g + 1) g1 = some (((), g2), 3, 1803) ∧ TW g2 ρ2 a sc v (gz g) (gz g + 1) (gz g1) (gz g1 + 1) (gz g1 + 2) 10 m n k h σ ∧ Fr no_ g g1 ∧ Fr no_ g g2 ∧ Ag g ρ ρ2 ∧ gz g + 2 ≤ gz g1 ∧ gz g1 < gz g2 ∧ dc ≤ 8 ∧ ds ≤ 90 := by
  obtain ⟨⟨hC, -, -⟩, ⟨n1, n2, ⟨n3, n3'⟩, n4⟩, hZ, -, -, -, -, -, -, -, hE, -⟩ := hp
  have F : Fr no_ g (nw_ g 10 8) := Fr.nw
  have hA : Ag g ρ (nr ρ g 9) := nr_ag
  obtain ⟨g1, dc, ds, a1, a2, a3, a4, a5, a6⟩ := X3_copy_l (hE.1.to F hA) (n2.to F hA (fun _ _ _ k => k)) n3' 10
  rw [z_nw] at a1 a2 a4
  have hA1 : Ag (nw_ g 10 8) (nr ρ g 9) (nr (nr ρ g 9) (nw_ g 10 8) 10) := nr_ag
  have F1 : Fr no_ g g1 := F.trans a3 (fun _ _ k => k)
  have hA2 : Ag g ρ (nr (nr ρ g 9) (nw_ g 10 8) 10) := hA.trans hA1 (by rw [z_nw]; omega)
  have ha := hC.1.2.2.1
  have hC1 : CW g1 (nr (nr ρ g 9) (nw_ g 10 8) 10) a sc v n k h σ := hC.to F1 hA2 (fun _ _ _ k => k) ⟨F1.R ha (fun k => k) 0, F1.R ha (fun k => k) 2⟩ (LI := []) (LA := []) Mf.rf (by decide) (by decide)
  have hI : ∀ i, gI g1 (gz g) i = 0 := fun i => by rw [a3.I (by rw [z_nw]; omega) (fun k => k), I_nw, if_pos rfl]
  have hK : gK g1 (gz g) = 10 := by rw [a3.K (by rw [z_nw]; omega), K_nw, if_pos rfl]
  obtain ⟨g2, b1, b2, b3, b4⟩ := tkinit (u := gz g) (s := gz g + 1) (r := 10) (m := m) hC1 ⟨⟨by omega, by omega⟩, a2, ⟨n3, n3'⟩, n4⟩ ⟨hK, by rw [nr_lt (by rw [z_nw]; omega)]; exact nr_ge (Nat.le_refl _), by omega⟩ (TnP0 hZ (hI 4) (hI 5) (hI 6))
  exact ⟨g1, g2, _, dc, ds, a1, b1, b2, F1, F1.trans b3 (fun q hq k => by omega), hA2.trans nr_ag (by have := F1.z; omega), by omega, by omega, a5, a6⟩
/-- isAsSeen, behind a run -/
theorem RelP.seen {a o sc v n k h x m T : Nat} {g : GS} {ρ : Nat → Nat} {σ : MS} (hp : RelP a o sc v n k h x m T g ρ σ) {g' : GS} {ρ' : Nat → Nat} {u x' sa ra oa r : Nat} {σ' : MS} (hF : Fr (fun q => q = v) g g') (hA : AR g' ρ' a sc v u x' sa ra oa r m n k h T σ') (e75 : m_A σ' 75 = m_A σ 75) (e74 : m_I σ' 74 = m_I σ 74) : ∃ w, X11_isAsSeen u g' = some w ∧ X4_isAsSeen σ' = some w ∧ (w = 0 ∨ w = 1) := by
  have hC := hp.1.1
  obtain ⟨nf, f1, f2, f3, f4⟩ := hp.2.2.2.2.2.2.1
  have hva : ¬ a = v := by intro q; have := hC.1.1; rw [q, hC.2.1.1] at this; omega
  have hf1 : PlP g' ρ 4 a 8 nf (fun k => m_A σ 75 (2 * k)) (fun k => m_A σ 75 (2 * k + 1)) := f1.to hC.1.2.2.1 hva hF Ag.rf (fun q _ q1 q2 => by rw [q2, hC.2.1.2.2.1] at q1; omega)
  have hx := hA.x
  rw [← e75] at hf1 f4
  exact seen_l hA.of hx.1 hx.2.1 hx.2.2.1 hA.la hx.2.2.2.2.1 hf1 (by rw [e74]; exact f2) f3 f4
/-- a number that was nought is nought again -/
theorem meqI {LI LA : List Nat} {σ σe : MS} {c : Nat} (hc : m_I σ c = 0) (h : Mf LI LA σ σe) (hI : ∀ k, k ∈ relI → k ≠ c → k ∉ LI) (hA : ∀ j, j ∈ relA → j ∉ LA) : MEq σ (s_I σe c 0) := by
  refine ⟨fun k hk => ?_, fun j hj => h.Af (hA j hj)⟩
  rw [rI_sI]
  by_cases q : k = c
  · rw [if_pos q, q, hc]
  · rw [if_neg q, h.I (hI k hk q)]
/-- a place of the row that was set is what it was -/
theorem meqA {LI LA : List Nat} {σ σe : MS} {f : Nat} (h : Mf LI LA σ σe) (hrow : ∀ i, i ≠ f → m_A σe 53 i = m_A σ 53 i) (hI : ∀ k, k ∈ relI → k ∉ LI) (hA : ∀ j, j ∈ relA → j ≠ 53 → j ∉ LA) : MEq σ (s_A σe 53 f (m_A σ 53 f)) := by
  refine ⟨fun k hk => h.I (hI k hk), fun j hj => ?_⟩
  funext i
  rw [rA_sA]
  by_cases q : j = 53
  · subst q
    by_cases q2 : i = f
    · rw [if_pos ⟨rfl, q2⟩, q2]
    · rw [if_neg (by rintro ⟨-, k⟩; exact q2 k), hrow i q2]
  · rw [if_neg (by rintro ⟨k, -⟩; exact q k), h.A (hA j hj q)]
theorem par_l : ∀ t : Fin 49, ((nI t.val - nI t.val / 2 * 2) = 0 ∧ ¬ (nI t.val - nI t.val / 2 * 2) = 1 ∧ -24 ≤ (nI t.val / 2).toInt ∧ (nI t.val / 2).toInt ≤ 24) ∨ (¬ (nI t.val - nI t.val / 2 * 2) = 0 ∧ (nI t.val - nI t.val / 2 * 2) = 1 ∧ (-(nI t.val + 1)) / 2 = 0 - ((nI t.val + 1) / 2) ∧ -24 ≤ (0 - ((nI t.val + 1) / 2)).toInt ∧ (0 - ((nI t.val + 1) / 2)).toInt ≤ 24) := by decide +kernel
