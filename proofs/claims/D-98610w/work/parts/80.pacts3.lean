/-! LAWS: acts (own work) -/
set_option maxRecDepth 100000
theorem AcR.push {g : GS} {ρ : Nat → Nat} {xs : List Nat} {m h : Nat} {row A row' A' : Nat → Int32} {z k : Nat} {w : Int32} (hc : AcR g ρ xs m h row A) (hz : SetP g ρ 0 z m row) (hrow : RowOK row m h) (hk : k < 6 + m) (hr : ∀ i, row' i = if i = k then w else row i) (h1 : A' (2 * xs.length) = nI k) (h2 : A' (2 * xs.length + 1) = row k) (h3 : ∀ i, i < 2 * xs.length → A' i = A i) : AcR g ρ (xs ++ [z]) m h row' A' := by
  obtain ⟨S, s1, s2⟩ := hc
  refine ⟨fun j => if j = xs.length then row else if j = xs.length + 1 then row' else S j, fun i hi => ?_, fun j y hy => ?_⟩
  · dsimp only
    rw [len_snoc, if_neg (by omega), if_pos rfl]
  · rcases get_snoc hy with ⟨q1, q2⟩ | ⟨q1, q2⟩
    · obtain ⟨b1, b2, q, b3, b4, b5⟩ := s2 j y q2
      dsimp only
      rw [if_neg (by omega), if_neg (by omega)]
      refine ⟨b1, b2, q, b3, by rw [h3 _ (by omega), b4], fun i hi => ?_⟩
      rw [b5 i hi, h3 _ (by omega)]
      by_cases e : j + 1 = xs.length
      · rw [if_pos e, e, s1 i hi]
      · rw [if_neg e, if_neg (show ¬ j + 1 = xs.length + 1 by omega)]
    · subst q1 q2
      dsimp only
      rw [if_pos rfl, if_neg (by omega), if_pos rfl]
      refine ⟨hz, hrow, k, hk, h1, fun i _ => ?_⟩
      rw [h2, hr]
      by_cases e : i = k
      · rw [if_pos e, e]
      · rw [if_neg e, if_neg e]
theorem AcR.drop {g : GS} {ρ : Nat → Nat} {xs : List Nat} {m h : Nat} {row A A' : Nat → Int32} (hc : AcR g ρ xs m h row A) (hl : 0 < xs.length) (h3 : ∀ i, i < 2 * (xs.length - 1) → A' i = A (i + 2)) : AcR g ρ (xs.eraseIdx 0) m h row A' := by
  obtain ⟨S, s1, s2⟩ := hc
  have hlen : (xs.eraseIdx 0).length = xs.length - 1 := by rw [List.length_eraseIdx_of_lt hl]
  refine ⟨fun j => S (j + 1), fun i hi => ?_, fun j y hy => ?_⟩
  · dsimp only
    rw [hlen, show xs.length - 1 + 1 = xs.length by omega, s1 i hi]
  · have hj : j < xs.length - 1 := by
      have := (List.getElem?_eq_some_iff.mp hy).1
      omega
    have hy2 : xs[j + 1]? = some y := by
      rw [← hy, List.getElem?_eraseIdx, if_neg (by omega)]
    obtain ⟨b1, b2, q, b3, b4, b5⟩ := s2 (j + 1) y hy2
    refine ⟨b1, b2, q, b3, by rw [h3 _ (by omega), show 2 * j + 2 = 2 * (j + 1) by omega, b4], fun i hi => ?_⟩
    dsimp only
    rw [b5 i hi, h3 _ (by omega), show 2 * j + 1 + 2 = 2 * (j + 1) + 1 by omega]
/-- what becomes leaves of the acts' array -/
def Bec (A A' : Nat → Int32) (c k : Nat) (ov : Int32) : Prop := A' (2 * (if c = 40 then 39 else c)) = nI k ∧ A' (2 * (if c = 40 then 39 else c) + 1) = ov ∧ ∀ i, i < 2 * (if c = 40 then 39 else c) → A' i = if c = 40 then A (i + 2) else A i
theorem becomes_l {σ : MS} {c k : Nat} (w : Int32) (hc : m_I σ 56 = nI c) (hc4 : c ≤ 40) (hk : k < 12) : ∃ σ', X4_becomes (nI k) w σ = some (m_A σ 53 k, σ') ∧ Mf [56] [53, 55] σ σ' ∧ m_I σ' 56 = nI ((if c = 40 then 39 else c) + 1) ∧ (∀ i, m_A σ' 53 i = if i = k then w else m_A σ 53 i) ∧ Bec (m_A σ 55) (m_A σ' 55) c k (m_A σ 53 k) := by
  have fin : ∀ (σ1 : MS) (d : Nat), Mf [56] [55] σ σ1 → m_I σ1 56 = nI d → d ≤ 39 → ∃ σ', X4_becomes_j47 (nI k) w σ1 = some (m_A σ 53 k, σ') ∧ Mf [56] [53, 55] σ σ' ∧ m_I σ' 56 = nI (d + 1) ∧ (∀ i, m_A σ' 53 i = if i = k then w else m_A σ 53 i) ∧ (m_A σ' 55 (2 * d) = nI k ∧ m_A σ' 55 (2 * d + 1) = m_A σ 53 k ∧ ∀ i, i < 2 * d → m_A σ' 55 i = m_A σ1 55 i) := by
    intro σ1 d hM hd hd2
    have e2 : (2 : Int32) * nI d = nI (2 * d) := (Int32.ofNat_mul 2 d).symm
    have e53 : ∀ i, m_A σ1 53 i = m_A σ 53 i := fun i => hM.A (by decide) i
    refine ⟨s_A (s_I (s_A (s_A σ1 55 (2 * d) (nI k)) 55 (2 * d + 1) (m_A σ 53 k)) 56 (nI (d + 1))) 53 k w, ?_, ?_, rfl, fun i => ?_, ?_, ?_, fun i hi => ?_⟩
    · unfold X4_becomes_j47
      rw [hd, e2, nI_1, nI_1, e_inN hk (by omega), e_inN (by omega) (by omega), e_inN (by omega) (by omega), e_inN hk (by omega), nI_clamp (by omega), nI_clamp (by omega), nI_clamp (by omega), e53]
    · exact (((((Mf.rf (LI := [56]) (LA := [53, 55])).trans hM (by decide) (by decide)).trans (Mf.sA (LI := []) (LA := [55]) (by decide)) (fun _ k => by cases k) (by decide)).trans (Mf.sA (LI := []) (LA := [55]) (by decide)) (fun _ k => by cases k) (by decide)).trans (Mf.sI (LI := [56]) (LA := []) (by decide)) (by decide) (fun _ k => by cases k)).trans (Mf.sA (LI := []) (LA := [53]) (by decide)) (fun _ k => by cases k) (by decide)
    · rw [rA_sA]
      by_cases q : i = k
      · rw [if_pos ⟨rfl, q⟩, if_pos q]
      · rw [if_neg (by rintro ⟨-, j⟩; exact q j), if_neg q]
        rw [rA_sI, rA_sA, if_neg (by rintro ⟨j, -⟩; cases j), rA_sA, if_neg (by rintro ⟨j, -⟩; cases j)]
        exact e53 i
    · rw [rA_sA, if_neg (by rintro ⟨j, -⟩; cases j), rA_sI, rA_sA, if_neg (by rintro ⟨-, j⟩; omega), rA_sA, if_pos ⟨rfl, rfl⟩]
    · rw [rA_sA, if_neg (by rintro ⟨j, -⟩; cases j), rA_sI, rA_sA, if_pos ⟨rfl, rfl⟩]
    · rw [rA_sA, if_neg (by rintro ⟨j, -⟩; cases j), rA_sI, rA_sA, if_neg (by rintro ⟨-, j⟩; omega), rA_sA, if_neg (by rintro ⟨-, j⟩; omega)]
  unfold X4_becomes Bec
  rw [hc]
  by_cases h40 : c = 40
  · obtain ⟨k1, k2⟩ := for_l (enc := fun (c : MS) t => (nI (t + 2), c)) (fun a : Int32 × MS => X4_becomes_b11 (nI k) w a.1 a.2) 77 (fun t c => s_A c 55 t (m_A c 55 (t + 2))) (fun c => c)
      (fun t c => Mf [56] [55] σ c ∧ m_I c 56 = nI 40 ∧ ∀ i, m_A c 55 i = if i < t then m_A σ 55 (i + 2) else m_A σ 55 i)
      (fun t c ht ⟨p1, p2, p3⟩ => ⟨p1.trans (Mf.sA (LI := []) (LA := [55]) (by decide)) (fun _ k => by cases k) (by decide), p2, fun i => by
        rw [rA_sA]
        by_cases q : i = t
        · rw [if_pos ⟨rfl, q⟩, if_pos (by omega), p3, if_neg (by omega), q]
        · rw [if_neg (by rintro ⟨-, k⟩; exact q k), p3]
          by_cases q2 : i < t
          · rw [if_pos q2, if_pos (by omega)]
          · rw [if_neg q2, if_neg (by omega)]⟩)
      (fun t c ht ⟨p1, p2, p3⟩ => by
        show X4_becomes_b11 (nI k) w (nI (t + 2)) c = _
        have e3 : nI (t + 2) - 2 = nI t := by
          rw [← nI_add t 2]
          show nI t + 2 - 2 = nI t
          rw [Int32.add_sub_cancel]
        unfold X4_becomes_b11
        rw [if_neg (show ¬ (80 : Int32) ≤ nI (t + 2) from nI_ge (a := t + 2) (b := 80) (by omega) (by omega)), e_inN (by omega) (by omega), e3, e_inN (by omega) (by omega), nI_clamp (by omega), nI_clamp (by omega), nI_1])
      (fun c _ => by
        show X4_becomes_b11 (nI k) w (nI 80) c = _
        unfold X4_becomes_b11
        rw [if_pos (by decide)]) σ ⟨Mf.rf, by rw [hc, h40], fun i => by rw [if_neg (by omega)]⟩ (n := fu_) (by unfold fu_; omega)
    obtain ⟨σ1, hσ1⟩ : ∃ σ1, σ1 = it_ (fun t c => s_A c 55 t (m_A c 55 (t + 2))) σ (77 + 1) := ⟨_, rfl⟩
    rw [← hσ1] at k1 k2
    obtain ⟨p1, p2, p3⟩ := k2
    obtain ⟨σ', f1, f2, f3, f4, f5, f6, f7⟩ := fin (s_I σ1 56 (nI 39)) 39 (p1.trans (Mf.sI (LI := [56]) (LA := []) (by decide)) (by decide) (fun _ k => by cases k)) rfl (by omega)
    refine ⟨σ', ?_, f2, ?_, f4, ?_, ?_, fun i hi => ?_⟩
    · rw [h40, if_pos (by decide), show (lp_ (fun a : Int32 × MS => X4_becomes_b11 (nI k) w a.1 a.2) fu_ (2, σ)) = _ from k1, e_ob, p2, show nI 40 - 1 = nI 39 by decide, f1]
    · rw [if_pos h40]; exact f3
    · rw [if_pos h40]; exact f5
    · rw [if_pos h40]; exact f6
    · rw [if_pos h40] at hi
      rw [f7 i hi, if_pos h40, rA_sI, p3, if_pos (by omega)]
  · have h40' : ¬ nI c = 40 := fun q => h40 (nI_inj (by omega) (by omega) q)
    obtain ⟨σ', f1, f2, f3, f4, f5, f6, f7⟩ := fin σ c Mf.rf hc (by omega)
    refine ⟨σ', ?_, f2, ?_, f4, ?_, ?_, fun i hi => ?_⟩
    · rw [if_neg h40', f1]
    · rw [if_neg h40]; exact f3
    · rw [if_neg h40]; exact f5
    · rw [if_neg h40]; exact f6
    · rw [if_neg h40] at hi
      rw [f7 i hi, if_neg h40]
/-- keep -/
theorem keep_l {a o sc v n k h x m T : Nat} {g : GS} {ρ : Nat → Nat} {σ : MS} (hp : RelP a o sc v n k h x m T g ρ σ) : ∃ g' ρ' dc ds l xs c, X1_keep a g = some (((), g'), dc, ds) ∧ Fr (fun q => ρ q = 3) g g' ∧ Ag g ρ ρ' ∧ gR g' a 7 = l + 1 ∧ LiP g' ρ' 3 l xs ∧ dc ≤ 9 ∧ ds ≤ 190 ∧ m_I σ 56 = nI c ∧ c ≤ 40 ∧ xs.length = (if c = 40 then 39 else c) + 1 ∧
    ∀ (k' : Nat) (w : Int32) (row' A' : Nat → Int32), k' < 6 + m → (∀ i, row' i = if i = k' then w else m_A σ 53 i) → Bec (m_A σ 55) A' c k' (m_A σ 53 k') → AcR g' ρ' xs m h row' A' := by
  have ha := hp.1.1.1
  obtain ⟨n1, n2, ⟨n3, n3'⟩, n4⟩ := hp.2.1
  obtain ⟨l, ys, c1, ⟨e, he⟩, c3, c4, c5⟩ := hp.2.2.2.2.2.1
  have hE := hp.2.2.2.2.2.2.2.2.2.2.1
  obtain ⟨g1, dc1, ds1, a1, a2, a3, a4, a5, a6⟩ := X3_copy_l hE.1 n2 n3' 0
  have he1 : LiPe g1 (nr ρ g 0) 3 l e ys := he.to a3 nr_ag (fun _ _ _ k => k)
  obtain ⟨g2, e', dc2, ds2, d1, d2, d3, d4, d5, d6, d7, d8, d9⟩ := J2_add_l he1 (x := gz g) (by rw [a3.S]; obtain ⟨⟨d, hd, -⟩, -⟩ := hE.1; exact ⟨d, hd⟩) (by omega) a4 (by rw [a2.1]; rfl)
  have F1 : Fr (fun q => nr ρ g 0 q = 3) g1 g2 := he1.fr d3
  have hF : Fr (fun q => ρ q = 3) g g2 := (a3.mono (fun _ _ k => k.elim)).trans F1 (fun q hq k => by rw [nr_lt hq] at k; exact k)
  have hA : Ag g ρ (nr (nr ρ g 0) g1 3) := nr_ag.trans nr_ag a3.z
  have ha3 : ¬ ρ a = 3 := by rw [ha.2.1]; decide
  have ha1 : gK g1 a = 1 := by rw [a3.K ha.2.2.1, ha.1]
  have ha2 : gK g2 a = 1 := by rw [hF.K ha.2.2.1, ha.1]
  have r7 : gR g2 a 7 = l + 1 := by rw [hF.R ha.2.2.1 ha3, c1]
  have h0 : ∀ q, nr ρ g 0 q = 0 ∨ nr ρ g 0 q = 0 → ¬ nr ρ g 0 q = 3 := fun q k k2 => by rw [k2] at k; omega
  have hZ : SetP g2 (nr (nr ρ g 0) g1 3) 0 (gz g) m (m_A σ 53) := a2.to F1 nr_ag (fun q _ k => h0 q k)
  have hAc : AcR g2 (nr (nr ρ g 0) g1 3) ys m h (m_A σ 53) (m_A σ 55) := c5.to hF hA (fun q _ k k2 => by rw [k] at k2; cases k2)
  have hds : ds2 + ds1 ≤ 190 := by omega
  have hdc : dc2 + dc1 ≤ 9 := by omega
  have hdc0 : 0 + dc2 + dc1 ≤ 9 := by omega
  have hl3 : ¬ ρ l = 0 := by rw [he.2.1]; decide
  have hpre : ∀ K : Unit → GS → Option ((Unit × GS) × Nat × Nat), (wk_ g a 1 <| nn_ (gR g a 7) fun b2 => nn_ (gR g a 1) fun b4 => wk_ g b4 3 <| ca_ (X3_copy b4 g) fun r9 g8 => wk_ g8 b2 12 <| ca_ (J2_add b2 r9 g8) fun r15 g14 => K () g14) = bp_ dc1 ds1 (bp_ dc2 ds2 (K () g2)) := by
    intro K
    rw [e_wk ha.1, c1, e_nn, n1, e_nn, e_wk n2.1, a1, e_ca, e_wk he1.1, d1, e_ca]
  have hkeep : X1_keep a g = bp_ dc1 ds1 (bp_ dc2 ds2 (wk_ g2 a 1 <| nn_ (gR g2 a 7) fun b19 => wk_ g2 b19 12 <| ob_ (J2_size b19 g2) fun r23 => if r23 ≤ 40 then some (((), g2), 0, 0) else nn_ (gR g2 a 7) fun b25 => wk_ g2 b25 12 <| cb_ (J2_remove b25 0 g2) fun r30 g29 => some (((), g29), 0, 0))) := hpre (fun _ g14 => wk_ g14 a 1 <| nn_ (gR g14 a 7) fun b19 => wk_ g14 b19 12 <| ob_ (J2_size b19 g14) fun r23 => if r23 ≤ 40 then some (((), g14), 0, 0) else nn_ (gR g14 a 7) fun b25 => wk_ g14 b25 12 <| cb_ (J2_remove b25 0 g14) fun r30 g29 => some (((), g29), 0, 0))
  rw [e_wk ha2, r7, e_nn, e_wk d2.1, J2_size_l ⟨e', d2⟩, e_ob, len_snoc] at hkeep
  by_cases h40 : ys.length = 40
  · have hgt : ¬ nI (ys.length + 1) ≤ 40 := nI_ge (a := 40) (by omega) (by omega)
    have hy0 : (ys ++ [gz g])[0]? = some ((ys ++ [gz g])[0]'(by simp)) := List.getElem?_eq_getElem _
    obtain ⟨g3, f1, f2, f3, f4, f5, f6⟩ := J2_remove_l d2 hy0
    have F3 : Fr (fun q => nr (nr ρ g 0) g1 3 q = 3) g2 g3 := f3.mono (fun q _ k => by
      rcases k with k | k
      · rw [k]; exact d2.2.1
      · rw [k]; exact f5)
    have hF' : Fr (fun q => ρ q = 3) g g3 := hF.trans F3 (fun q hq k => by rw [hA q hq] at k; exact k)
    have herase : (ys ++ [gz g]).eraseIdx 0 = ys.eraseIdx 0 ++ [gz g] := List.eraseIdx_append_of_lt_length (by omega) _
    have hlen : (ys.eraseIdx 0).length = 39 := by rw [List.length_eraseIdx_of_lt (by omega), h40]
    rw [herase] at f2
    refine ⟨g3, nr (nr ρ g 0) g1 3, dc2 + dc1, ds2 + ds1, l, ys.eraseIdx 0 ++ [gz g], 40, ?_, hF', hA, ?_, ⟨e', f2⟩, hdc, hds, by rw [c3, h40], Nat.le_refl _, by rw [if_pos rfl, len_snoc, hlen], fun k' w row' A' hk hr hB => ?_⟩
    · rw [hkeep, if_neg hgt, e_nn, e_wk d2.1, show J2_remove l 0 g2 = _ from f1, e_cb, e_b0, e_bp]
    · rw [hF'.R ha.2.2.1 ha3, c1]
    · unfold Bec at hB
      rw [if_pos rfl] at hB
      obtain ⟨B1, B2, B3⟩ := hB
      have hAc3 : AcR g3 (nr (nr ρ g 0) g1 3) ys m h (m_A σ 53) (m_A σ 55) := hAc.to F3 Ag.rf (fun q _ k k2 => by rw [k] at k2; cases k2)
      have hZ3 : SetP g3 (nr (nr ρ g 0) g1 3) 0 (gz g) m (m_A σ 53) := hZ.to F3 Ag.rf (fun q _ k k2 => by rw [k2] at k; omega)
      exact (hAc3.drop (A' := fun i => m_A σ 55 (i + 2)) (by omega) (fun i _ => rfl)).push hZ3 n4 hk hr (by rw [hlen]; exact B1) (by rw [hlen]; exact B2) (fun i hi => by
        rw [hlen] at hi
        rw [B3 i hi, if_pos rfl])
  · have hle : nI (ys.length + 1) ≤ 40 := nI_le (b := 40) (by omega) (by omega)
    refine ⟨g2, nr (nr ρ g 0) g1 3, dc2 + dc1, ds2 + ds1, l, ys ++ [gz g], ys.length, ?_, hF, hA, r7, ⟨e', d2⟩, hdc, hds, c3, c4, by rw [if_neg h40, len_snoc], fun k' w row' A' hk hr hB => ?_⟩
    · rw [hkeep, if_pos hle, e_b0, e_bp]
    · unfold Bec at hB
      rw [if_neg h40] at hB
      obtain ⟨B1, B2, B3⟩ := hB
      exact hAc.push hZ n4 hk hr B1 B2 (fun i hi => by rw [B3 i hi, if_neg h40])
