/-! LAWS: undo, image, restore (own work) -/
set_option maxRecDepth 100000
theorem RowOK.congr {S S' : Nat → Int32} {m h : Nat} (hS : RowOK S m h) (e : ∀ i, i < 6 + m → S' i = S i) : RowOK S' m h := by
  obtain ⟨r0, r1, r2, r3, r4, r5, r6⟩ := hS
  refine ⟨?_, ?_, ?_, ?_, ?_, ?_, fun i hi => ?_⟩
  · rw [e 0 (by omega)]; exact r0
  · rw [e 1 (by omega)]; exact r1
  · rw [e 2 (by omega)]; exact r2
  · rw [e 3 (by omega)]; exact r3
  · rw [e 4 (by omega)]; exact r4
  · rw [e 5 (by omega)]; exact r5
  · rw [e (6 + i) (by omega)]; exact r6 i hi
theorem AcR.congr {g : GS} {ρ : Nat → Nat} {xs : List Nat} {m h : Nat} {row A row' A' : Nat → Int32} (hc : AcR g ρ xs m h row A) (hr : ∀ i, i < 6 + m → row' i = row i) (hA : ∀ i, i < 2 * xs.length → A' i = A i) : AcR g ρ xs m h row' A' := by
  obtain ⟨S, s1, s2⟩ := hc
  refine ⟨S, fun i hi => by rw [s1 i hi, hr i hi], fun j y hy => ?_⟩
  have hj := (List.getElem?_eq_some_iff.mp hy).1
  obtain ⟨b1, b2, q, b3, b4, b5⟩ := s2 j y hy
  exact ⟨b1, b2, q, b3, by rw [hA _ (by omega), b4], fun i hi => by rw [hA _ (by omega)]; exact b5 i hi⟩
theorem AcR.pop {g : GS} {ρ : Nat → Nat} {xs : List Nat} {m h d : Nat} {row A : Nat → Int32} (hc : AcR g ρ xs m h row A) (hl : xs.length = d + 1) : ∃ y S1 q, xs[d]? = some y ∧ SetP g ρ 0 y m S1 ∧ RowOK S1 m h ∧ q < 6 + m ∧ A (2 * d) = nI q ∧ (∀ i, i < 6 + m → S1 i = if i = q then A (2 * d + 1) else row i) ∧ ∀ row' : Nat → Int32, (∀ i, i < 6 + m → row' i = S1 i) → AcR g ρ (xs.eraseIdx d) m h row' A := by
  obtain ⟨S, s1, s2⟩ := hc
  obtain ⟨y, hy⟩ := get_ex (xs := xs) (k := d) (by omega)
  obtain ⟨b1, b2, q, b3, b4, b5⟩ := s2 d y hy
  refine ⟨y, S d, q, hy, b1, b2, b3, b4, fun i hi => by rw [b5 i hi, ← s1 i hi, hl], fun row' hr => ⟨S, fun i hi => ?_, fun j u hu => ?_⟩⟩
  · rw [List.length_eraseIdx_of_lt (by omega), hl, Nat.add_sub_cancel, hr i hi]
  · have hj := (List.getElem?_eq_some_iff.mp hu).1
    rw [List.length_eraseIdx_of_lt (by omega)] at hj
    rw [List.getElem?_eraseIdx, if_pos (by omega)] at hu
    exact s2 j u hu
theorem op_undo {a o : Nat} {g : GS} {σ : MS} (hr : Rel a o g σ) : OpI a o (X1_undo a g) (X4_undo σ) := by
  obtain ⟨ρ, sc, v, n, k, h, x, m, T, hp⟩ := hr
  have hp0 := hp.m (s0_eq (c := 0))
  have ha := hp.1.1.1
  obtain ⟨n1, n2, ⟨n3, n3'⟩, n4⟩ := hp.2.1
  obtain ⟨l, ys, c1, ⟨e, he⟩, c3, c4, c5⟩ := hp.2.2.2.2.2.1
  have hE := hp.2.2.2.2.2.2.2.2.2.2.1
  unfold X1_undo X4_undo
  rw [e_wk ha.1, c1, e_nn, e_wk he.1, J2_isEmpty_l ⟨e, he⟩, e_ob, c3]
  by_cases h0 : ys.length = 0
  · rw [if_pos h0, if_neg nn01, if_pos (by rw [h0]; rfl)]
    exact ⟨-1, g, 0, 0, _, rfl, rfl, hp0.r MEq.rf, by omega, by omega⟩
  · obtain ⟨d, hd⟩ : ∃ d, ys.length = d + 1 := ⟨ys.length - 1, by omega⟩
    obtain ⟨y, S1, q, p1, p2, p3, p4, p5, p6, p7⟩ := c5.pop hd
    rw [if_neg h0, if_pos rfl, if_neg (nI_ne0 (by omega) (by omega)), e_nn, e_nn, e_wk he.1, J2_size_l ⟨e, he⟩, e_ob, hd, nI_p, e_wk he.1]
    obtain ⟨g1, f1, f2, f3, f4, f5, f6⟩ := J2_remove_l he p1
    have F1 : Fr (fun q => ρ q = 3) g g1 := f3.mono (fun q _ k => by
      rcases k with k | k
      · rw [k]; exact he.2.1
      · rw [k]; exact f5)
    have h03 : ∀ q, ρ q = 0 ∨ ρ q = 0 → ¬ ρ q = 3 := fun q k k2 => by rw [k2] at k; omega
    have p2' : SetP g1 ρ 0 y m S1 := p2.to F1 Ag.rf (fun q _ k => h03 q k)
    obtain ⟨g2, dc, ds, a1, a2, a3, a4, a5, a6⟩ := X3_copy_l (hE.1.to F1 Ag.rf) p2' n3' 2
    obtain ⟨g3, hg3⟩ : ∃ g3, g3 = pR g2 a 1 (gz g1 + 1) := ⟨_, rfl⟩
    have F3 : Fr (fun q => q = a) g2 g3 := by rw [hg3]; exact Fr.pR rfl
    have F : Fr (fun q => ρ q = 3 ∨ q = a) g g3 := ((F1.mono (fun _ _ k => Or.inl k)).trans a3 (fun _ _ k => k.elim)).trans F3 (fun _ _ k => Or.inr k)
    have hA : Ag g ρ (nr ρ g1 2) := Ag.rf.trans nr_ag F1.z
    have ha3 : ¬ ρ a = 3 := by rw [ha.2.1]; decide
    have la1 : a < gz g1 := F1.lt ha.2.2.1
    have hR2 : ∀ i, gR g2 a i = gR g a i := fun i => by rw [a3.R la1 (fun k => k), F1.R ha.2.2.1 ha3]
    have hR : ∀ i, i ∉ [1] → gR g3 a i = gR g a i := fun i hi => by rw [hg3, R_pR, if_neg (by rintro ⟨-, k⟩; exact hi (by simp [k])), hR2]
    have hI : ∀ i, i ∉ [] → gI g3 a i = gI g a i := fun i _ => by rw [hg3, I_pR, a3.I la1 (fun k => k), F1.I ha.2.2.1 ha3]
    have e2 : (2 : Int32) * nI d = nI (2 * d) := (Int32.ofNat_mul 2 d).symm
    obtain ⟨σ', hσ'⟩ : ∃ σ', σ' = s_A (s_I (s_I σ 0 0) 56 (nI d)) 53 q (m_A σ 55 (2 * d + 1)) := ⟨_, rfl⟩
    have hM : Mf [0, 56] [53] σ σ' := by
      rw [hσ']
      exact ((Mf.sI (LI := [0, 56]) (LA := [53]) (by decide)).trans (Mf.sI (LI := [56]) (LA := []) (by decide)) (by decide) (fun _ k => by cases k)).trans (Mf.sA (LI := []) (LA := [53]) (by decide)) (fun _ k => by cases k) (by decide)
    have hrow : ∀ i, i < 6 + m → m_A σ' 53 i = S1 i := fun i hi => by
      rw [p6 i hi, hσ', rA_sA]
      by_cases k : i = q
      · rw [if_pos ⟨rfl, k⟩, if_pos k]
      · rw [if_neg (by rintro ⟨-, k2⟩; exact k k2), if_neg k]; rfl
    obtain ⟨B, N, Z, Ta, Re, Ac, Fi, Bo, Ke, Im, En, Ou⟩ := hp.all (LR := [1]) (LJ := []) (D := [3, 1]) F hA (fun r hr q _ k e => by
      rcases e with e | e
      · rw [k] at e; exact hr (by simp [e])
      · rw [e, ha.2.1] at k; exact hr (by simp [k])) hR hI hM (by decide)
    have hx2 : ∀ q, nr ρ g1 2 q = 2 ∨ nr ρ g1 2 q = 0 → ¬ q = a := fun q k k2 => by rw [k2, nr_lt la1, ha.2.1] at k; omega
    have hSet : SetP g3 (nr ρ g1 2) 2 (gz g1) m (m_A σ' 53) := (a2.to F3 Ag.rf (fun q _ k => hx2 q k)).congr hrow
    have F13 : Fr (fun q => q = a) g1 g3 := (a3.mono (fun _ _ k => k.elim)).trans F3 (fun _ _ k => k)
    have hl3 : LiPe g3 (nr ρ g1 2) 3 l e (ys.eraseIdx d) := f2.to F13 nr_ag (fun q _ k k2 => by rw [k2, ha.2.1] at k; omega)
    have hlen : (ys.eraseIdx d).length = d := by rw [List.length_eraseIdx_of_lt (by omega), hd, Nat.add_sub_cancel]
    have hAcR : AcR g3 (nr ρ g1 2) (ys.eraseIdx d) m h (m_A σ' 53) (m_A σ' 55) := by
      rw [hM.Af (j := 55) (by decide)]
      exact (p7 _ hrow).to F hA (fun q _ k k2 => by
        rcases k2 with k2 | k2
        · exact h03 q (Or.inl k) k2
        · rw [k2, ha.2.1] at k; cases k)
    have k2a : gK g2 a = 1 := by rw [a3.K la1, F1.K ha.2.2.1, ha.1]
    have h7 : gR g3 a 7 = l + 1 := by rw [hR 7 (by decide), c1]
    have hd40 : d ≤ 40 := by omega
    have hc56 : m_I σ' 56 = nI (ys.eraseIdx d).length := by rw [hlen, hσ']; rfl
    refine ⟨nI d, g3, dc, ds, σ', ?_, ?_, ⟨_, _, _, _, _, _, _, _, _, B (by decide), ⟨by rw [hg3, R_pR, if_pos ⟨rfl, rfl⟩], hSet, ⟨by rw [hM.I (by decide)]; exact n3, n3'⟩, p3.congr hrow⟩, Z (by decide), Ta (by decide), Re (by decide), ⟨l, _, h7, ⟨e, hl3⟩, hc56, by rw [hlen]; exact hd40, hAcR⟩, Fi (by decide), Bo (by decide), Ke (by decide), Im (by decide), En, Ou⟩, by omega, by omega⟩
    · rw [f1, e_cb, e_wk p2'.1, a1, e_ca, e_wk k2a, ← hg3, h7, e_nn, e_wk hl3.1, J2_size_l ⟨e, hl3⟩, e_ob, hlen, e_b0]
    · rw [e2, nI_1, e_inN (by omega) (by omega), e_inN (by omega) (by omega), nI_clamp (by omega), p5, e_inN (by omega) (by omega), nI_clamp (by omega), nI_clamp (by omega), hσ']
