/-! LAWS: book, see, forget, feed (own work) -/
set_option maxRecDepth 100000
theorem get_snoc' {xs : List Nat} {x : Nat} : (xs ++ [x])[xs.length]? = some x := by simp
theorem LiPe.fr {g g' : GS} {ρ : Nat → Nat} {r l e : Nat} {xs : List Nat} (h : LiPe g ρ r l e xs) (hF : Fr (fun q => q = l ∨ (q = e ∧ gK g e = 103)) g g') : Fr (fun q => ρ q = r) g g' := hF.mono (fun q hq k => by
  rcases k with k | ⟨k, k2⟩
  · rw [k]; exact h.2.1
  · rw [k]
    rcases h.2.2.2.2.2.2.1 with ⟨-, q2⟩ | ⟨q2, -⟩
    · exact q2
    · rw [q2] at k2; cases k2)
theorem op_book {a o : Nat} {g : GS} {σ : MS} (hr : Rel a o g σ) (x : Int32) : OpI a o (X1_book a x g) (X4_book x σ) := by
  obtain ⟨ρ, sc, v, n, k, h, y, m, T, hp⟩ := hr
  have hp0 := hp.m (s0_eq (c := 0))
  have ha := hp.1.1.1
  obtain ⟨l, ys, b1, b2, b3, b4, b5, b6⟩ := hp0.2.2.2.2.2.2.2.1
  have b3' : m_I σ 76 = nI ys.length := b3
  have hbad : OpI a o (X1_book_j26 a g) (X4_book_j26 (s_I σ 0 0)) := by
    obtain ⟨rf, -, -, -, c4, c5, c6⟩ := hp0.refu 2 (by omega) (-1)
    unfold X1_book_j26 X4_book_j26
    refine ⟨-1, _, 0, 0, _, ?_, ?_, ⟨_, _, _, _, _, _, _, _, _, c6⟩, by omega, by omega⟩
    · rw [e_wk ha.1, show (2 : Int32) = nI 2 from rfl, c5, e_cb]
    · rw [show (2 : Int32) = nI 2 from rfl, c4, e_cb]
  unfold X1_book X4_book
  rw [e_wk ha.1, b1, e_nn, e_wk b2.K, J2_size_l b2, e_ob, b3']
  by_cases h16 : ys.length = 16
  · rw [if_pos (by rw [h16]; rfl), if_pos (by rw [h16]; rfl)]
    exact hbad
  · have hl16 : ys.length + 1 ≤ 16 := by omega
    have hn16 : ¬ nI ys.length = 16 := fun q => h16 (nI_inj (by omega) (by omega) q)
    rw [if_neg hn16, if_neg hn16, X1_in_l, X4_within_l, e_ob, e_ob]
    cases hw : wi_ x 12 480 with
    | false => exact hbad
    | true =>
      obtain ⟨w1, w2⟩ := wi_t.mp hw
      rw [k_12] at w1
      rw [k_480] at w2
      rw [if_pos rfl, if_neg nn01, if_neg nn01, e_nn, e_inN (by omega) (by omega), nI_clamp (by omega), nI_1]
      have hE := hp0.2.2.2.2.2.2.2.2.2.2.1
      obtain ⟨z, g1, dc1, ds1, c1, c2, c3, c4, c5, c6, c7, c8, c9⟩ := J19_valueOf_l hE.2.1 x
      obtain ⟨e, he⟩ := b2
      have he1 : LiPe g1 (nr ρ g 0) 5 l e ys := he.to c2 nr_ag (fun _ _ _ k => k)
      obtain ⟨g2, e', dc2, ds2, d1, d2, d3, d4, d5, d6, d7, d8, d9⟩ := J2_add_l he1 (by rw [c2.S]; obtain ⟨⟨d, hd, -⟩, -⟩ := hE.1; exact ⟨d, hd⟩) (by omega) c5 (by rw [c3]; rfl)
      have hF : Fr (fun q => ρ q = 5) g g2 := (c2.mono (fun _ _ k => k.elim)).trans (he1.fr d3) (fun q hq k => by rw [nr_lt hq] at k; exact k)
      have hA : Ag g ρ (nr (nr ρ g 0) g1 5) := nr_ag.trans nr_ag c2.z
      have ha5 : ¬ ρ a = 5 := by rw [ha.2.1]; omega
      have hM : Mf [0, 76] [77] σ (s_I (s_A (s_I σ 0 0) 77 ys.length x) 76 (nI (ys.length + 1))) := ((Mf.sI (LI := [0, 76]) (LA := [77]) (by decide)).trans (Mf.sA (LI := []) (LA := [77]) (by decide)) (fun _ k => by cases k) (fun _ k => k)).trans (Mf.sI (LI := [76]) (LA := []) (by decide)) (by decide) (by decide)
      obtain ⟨B, N, Z, Ta, Re, Ac, Fi, Bo, Ke, Im, En, Ou⟩ := hp.all (LR := []) (LJ := []) (D := [5]) hF hA (fun r hr q _ k e => by rw [k] at e; exact hr (by simp [e])) (fun i _ => hF.R ha.2.2.1 ha5 i) (fun i _ => hF.I ha.2.2.1 ha5 i) hM (by decide)
      have ha2 : gK g2 a = 1 := by rw [hF.K ha.2.2.1, ha.1]
      have h9 : gR g2 a 9 = l + 1 := by rw [hF.R ha.2.2.1 ha5, b1]
      have hBo : BooP g2 (nr (nr ρ g 0) g1 5) 5 a 9 (m_A (s_I (s_A (s_I σ 0 0) 77 ys.length x) 76 (nI (ys.length + 1))) 77) (m_I (s_I (s_A (s_I σ 0 0) 77 ys.length x) 76 (nI (ys.length + 1))) 76) := by
        refine ⟨l, ys ++ [z], h9, ⟨e', d2⟩, ?_, ?_, fun i w hw => ?_, fun i hi => ?_⟩
        · rw [len_snoc]; rfl
        · rw [len_snoc]; exact hl16
        · show _ ∧ _ ∧ _ ∧ gI g2 w 0 = m_A (s_A (s_I σ 0 0) 77 ys.length x) 77 i
          rw [rA_sA]
          rcases get_snoc hw with ⟨q1, q2⟩ | ⟨q1, q2⟩
          · obtain ⟨f1, f2, f3, f4⟩ := b5 i w q2
            rw [if_neg (by rintro ⟨-, k⟩; exact Nat.ne_of_lt q1 k), hF.K f3, hA w f3, hF.I f3 (by rw [f2]; decide)]
            exact ⟨f1, f2, hF.lt f3, f4⟩
          · subst q1 q2
            have hz5 : ¬ nr ρ g 0 w = 5 := by rw [c4]; decide
            rw [if_pos ⟨rfl, rfl⟩, d3.K c5, nr_lt c5, (he1.fr d3).I c5 hz5]
            exact ⟨c3, c4, d3.lt c5, c6⟩
        · show 12 ≤ (m_A (s_A (s_I σ 0 0) 77 ys.length x) 77 i).toInt ∧ (m_A (s_A (s_I σ 0 0) 77 ys.length x) 77 i).toInt ≤ 480
          rw [rA_sA]
          rw [len_snoc] at hi
          by_cases q : i = ys.length
          · rw [if_pos ⟨rfl, q⟩]; exact ⟨w1, w2⟩
          · rw [if_neg (by rintro ⟨-, k⟩; exact q k)]; exact b6 i (Nat.lt_of_le_of_ne (Nat.le_of_lt_succ hi) q)
      refine ⟨nI (ys.length + 1), g2, dc2 + dc1, ds2 + ds1, _, ?_, rfl, ⟨_, _, _, _, _, _, _, _, _, B (by decide), N (by decide), Z (by decide), Ta (by decide), Re (by decide), Ac (by decide), Fi (by decide), hBo, Ke (by decide), Im (by decide), En, Ou⟩, by omega, by omega⟩
      rw [c1, e_ca, e_wk (by rw [he1.1]), d1, e_ca, e_wk ha2, h9, e_nn, e_wk d2.1, J2_size_l ⟨e', d2⟩, e_ob, len_snoc, e_b0, e_bp]
theorem op_see {a o : Nat} {g : GS} {σ : MS} (hr : Rel a o g σ) (x b : Int32) : OpT [(1, 1)] a o (X1_see a x b g) (X4_see x b σ) := by
  obtain ⟨ρ, sc, v, n, k, h, y, m, T, hp⟩ := hr
  have hp0 := hp.m (s0_eq (c := 0))
  have ha := hp.1.1.1
  have hT6 := hp.1.2.2
  have hla := hp0.sc.2.2.2.2
  obtain ⟨nf, ⟨l, xs, b1, b2, b3, b4⟩, b5, b6, b7⟩ := hp0.2.2.2.2.2.2.1
  have b5' : m_I (s_I σ 0 0) 74 = nI nf := b5
  unfold X1_see X4_see
  rw [e_wk ha.1]
  cases ht : wi_ x 0 (nI T) with
  | false =>
    refine OpT.ex (e := 1) (q := gz g) (r := 0) (g' := g) (σ' := s_I (s_I σ 0 0) 0 1) (dc := 1) (ds := 6) ?_ ?_ (hp0.r s0_eq) (by omega) (by omega) (List.mem_cons_self)
    · rw [X1_aTenth_f hp0 ht, e_tcr, e_b0]
    · rw [X4_isTenth_f hla s0_0 ht, e_cb, if_pos rfl]
  | true =>
    rw [X1_aTenth_t hp0 ht, e_tcl, bp_0, X4_isTenth_t hla s0_0 ht, e_cb, if_neg nn01, e_wk ha.1, b1, e_nn, e_wk b2.K, J2_size_l b2, e_ob, b5', b3]
    obtain ⟨t1, t2⟩ := wi_t.mp ht
    rw [k_0] at t1
    rw [i_n (by omega)] at t2
    by_cases h8 : nf = 8
    · obtain ⟨rf, -, -, -, c4, c5, c6⟩ := hp0.refu 2 (by omega) (-1)
      rw [if_pos (by rw [h8]; rfl), if_pos (by rw [h8]; rfl)]
      refine OpT.ok (r := -1) (dc := 0) (ds := 0) ?_ ?_ ⟨_, _, _, _, _, _, _, _, _, c6⟩ (by omega) (by omega) ?_
      · rw [show (2 : Int32) = nI 2 from rfl, c5, e_cb]
      · rw [show (2 : Int32) = nI 2 from rfl, c4, e_cb]
      · rfl
    · have hn8 : ¬ nI nf = 8 := fun q => h8 (nI_inj (by omega) (by omega) q)
      have hl8 : nf + 1 ≤ 8 := by omega
      have e2n : (2 : Int32) * nI nf = nI (2 * nf) := (Int32.ofNat_mul 2 nf).symm
      have hz : ∀ i, i < 2 → 2 * nf + i < 16 := fun i hi => by omega
      have hE := hp0.2.2.2.2.2.2.2.2.2.2.1
      rw [if_neg hn8, if_neg hn8, e_nn, e_na (by decide), e_al, cl_2, e2n, e_inN (show 2 * nf < 16 from hz 0 (by omega)) (by omega), nI_clamp (by omega), N_nw, if_pos rfl, e_i0 (by decide) (by decide), cl_0, nI_1]
      -- both branches at once
      have key : ∀ w : Int32, w = 0 ∨ w = 1 → OpT [(1, 1)] a o (bp_ 1 2 (X1_see_j47 a l (gz g) (gz g) 1 w (pI (nw_ g 100 2) (gz g) 0 x))) (X4_see_j64 (nI (2 * nf + 1)) w (s_A (s_I σ 0 0) 75 (2 * nf) x)) := by
        intro w hw
        obtain ⟨g1, hg1⟩ : ∃ g1, g1 = pI (pI (nw_ g 100 2) (gz g) 0 x) (gz g) 1 w := ⟨_, rfl⟩
        have z1 : gz g1 = gz g + 1 := by rw [hg1]; rfl
        have F1 : Fr no_ g g1 := by
          rw [hg1]
          exact (Fr.nw (W := no_)).trans ((Fr.pI (W := fun q => q = gz g) rfl).trans (Fr.pI (W := fun q => q = gz g) rfl) (fun _ _ k => k)) (fun q hq k => by omega)
        have k1 : gK g1 (gz g) = 100 := by rw [hg1, K_pI, K_pI, K_nw, if_pos rfl]
        have n1 : gN g1 (gz g) = 2 := by rw [hg1, N_pI, N_pI, N_nw, if_pos rfl]
        have i0 : gI g1 (gz g) 0 = x := by rw [hg1, I_pI, if_neg (by rintro ⟨-, q⟩; cases q), I_pI, if_pos ⟨rfl, rfl⟩]
        have i1 : gI g1 (gz g) 1 = w := by rw [hg1, I_pI, if_pos ⟨rfl, rfl⟩]
        obtain ⟨e, he⟩ := b2
        have he1 : LiPe g1 (nr ρ g 0) 4 l e xs := he.to F1 nr_ag (fun _ _ _ k => k)
        obtain ⟨g2, e', dc2, ds2, d1, d2, d3, d4, d5, d6, d7, d8, d9⟩ := J2_add_l he1 (x := gz g) (by rw [F1.S]; obtain ⟨⟨d, hd, -⟩, -⟩ := hE.1; exact ⟨d, hd⟩) (by omega) (by omega) (by rw [k1]; rfl)
        have hF : Fr (fun q => ρ q = 4) g g2 := (F1.mono (fun _ _ k => k.elim)).trans (he1.fr d3) (fun q hq k => by rw [nr_lt hq] at k; exact k)
        have hA : Ag g ρ (nr (nr ρ g 0) g1 4) := nr_ag.trans nr_ag F1.z
        have ha4 : ¬ ρ a = 4 := by rw [ha.2.1]; decide
        have hM : Mf [0, 74] [75] σ (s_I (s_A (s_A (s_I σ 0 0) 75 (2 * nf) x) 75 (2 * nf + 1) w) 74 (nI (nf + 1))) := (((Mf.sI (LI := [0, 74]) (LA := [75]) (by decide)).trans (Mf.sA (LI := []) (LA := [75]) (by decide)) (fun _ k => by cases k) (fun _ k => k)).trans (Mf.sA (LI := []) (LA := [75]) (by decide)) (fun _ k => by cases k) (fun _ k => k)).trans (Mf.sI (LI := [74]) (LA := []) (by decide)) (by decide) (by decide)
        obtain ⟨B, N, Z, Ta, Re, Ac, Fi, Bo, Ke, Im, En, Ou⟩ := hp.all (LR := []) (LJ := []) (D := [4]) hF hA (fun r hr q _ k e => by rw [k] at e; exact hr (by simp [e])) (fun i _ => hF.R ha.2.2.1 ha4 i) (fun i _ => hF.I ha.2.2.1 ha4 i) hM (by decide)
        have ha2 : gK g2 a = 1 := by rw [hF.K ha.2.2.1, ha.1]
        have h8' : gR g2 a 8 = l + 1 := by rw [hF.R ha.2.2.1 ha4, b1]
        have hz4 : ¬ nr ρ g 0 (gz g) = 4 := by rw [nr_ge (Nat.le_refl _)]; decide
        have hzg : gz g < gz g1 := by rw [z1]; exact Nat.lt_succ_self _
        have hrow : ∀ i, m_A (s_I (s_A (s_A (s_I σ 0 0) 75 (2 * nf) x) 75 (2 * nf + 1) w) 74 (nI (nf + 1))) 75 i = if i = 2 * nf + 1 then w else if i = 2 * nf then x else m_A σ 75 i := by
          intro i
          rw [rA_sI, rA_sA, rA_sA, rA_sI]
          by_cases q1 : i = 2 * nf + 1
          · rw [if_pos ⟨rfl, q1⟩, if_pos q1]
          · rw [if_neg (by rintro ⟨-, k⟩; exact q1 k), if_neg q1]
            by_cases q2 : i = 2 * nf
            · rw [if_pos ⟨rfl, q2⟩, if_pos q2]
            · rw [if_neg (by rintro ⟨-, k⟩; exact q2 k), if_neg q2]
        have hFi : FilP g2 (nr (nr ρ g 0) g1 4) 4 a 8 T (m_A (s_I (s_A (s_A (s_I σ 0 0) 75 (2 * nf) x) 75 (2 * nf + 1) w) 74 (nI (nf + 1))) 75) (m_I (s_I (s_A (s_A (s_I σ 0 0) 75 (2 * nf) x) 75 (2 * nf + 1) w) 74 (nI (nf + 1))) 74) := by
          refine ⟨nf + 1, ⟨l, xs ++ [gz g], h8', ⟨e', d2⟩, by rw [len_snoc, b3], fun i u hu => ?_⟩, rfl, hl8, fun j hj => ?_⟩
          · dsimp only
            rw [hrow, hrow]
            rcases get_snoc hu with ⟨q1, q2⟩ | ⟨q1, q2⟩
            · have q3 : i < nf := by rw [← b3]; exact q1
              have e1 : ¬ 2 * i = 2 * nf + 1 := fun k => by omega
              have e2 : ¬ 2 * i = 2 * nf := fun k => by omega
              have e3 : ¬ 2 * i + 1 = 2 * nf + 1 := fun k => by omega
              have e4 : ¬ 2 * i + 1 = 2 * nf := fun k => by omega
              rw [if_neg e1, if_neg e2, if_neg e3, if_neg e4]
              exact (b4.to hF hA (fun q _ k k2 => by rw [k] at k2; cases k2)) i u q2
            · subst q2
              have e1 : ¬ 2 * i = 2 * nf + 1 := fun k => by omega
              have e2 : 2 * i = 2 * nf := by rw [q1, b3]
              have e3 : 2 * i + 1 = 2 * nf + 1 := by rw [e2]
              rw [if_neg e1, if_pos e2, if_pos e3, d3.K hzg, d3.N hzg, nr_lt hzg, (he1.fr d3).I hzg hz4, (he1.fr d3).I hzg hz4, i0, i1]
              exact ⟨k1, n1, nr_ge (Nat.le_refl _), rfl, rfl, d3.lt hzg⟩
          · rw [hrow, hrow]
            have e1 : ¬ 2 * j = 2 * nf + 1 := fun k => by omega
            have e4 : ¬ 2 * j + 1 = 2 * nf := fun k => by omega
            rw [if_neg e1, if_neg e4]
            by_cases q : j = nf
            · rw [if_pos (by rw [q]), if_pos (by rw [q])]
              exact ⟨⟨t1, t2⟩, hw⟩
            · have q3 : j < nf := Nat.lt_of_le_of_ne (Nat.le_of_lt_succ hj) q
              rw [if_neg (fun k => by omega), if_neg (fun k => by omega)]
              exact b7 j q3
        refine OpT.ok (r := nI (nf + 1)) (g' := g2) (dc := dc2 + 1) (ds := ds2 + 2) ?_ ?_ ⟨_, _, _, _, _, _, _, _, _, B (by decide), N (by decide), Z (by decide), Ta (by decide), Re (by decide), Ac (by decide), hFi, Bo (by decide), Ke (by decide), Im (by decide), En, Ou⟩ ?_ ?_ rfl
        · unfold X1_see_j47
          rw [e_wk (by rw [K_pI, K_nw, if_pos rfl]), N_pI, N_nw, if_pos rfl, e_i1 (by decide) (by decide), cl_1, ← hg1, e_wk (by rw [he1.1]), d1, e_ca, e_wk ha2, h8', e_nn, e_wk d2.1, J2_size_l ⟨e', d2⟩, e_ob, len_snoc, b3, e_b0, e_bp]
        · unfold X4_see_j64
          rw [e_inN (hz 1 (by omega)) (by omega), nI_clamp (by omega)]
          have e3 : m_I (s_A (s_I σ 0 0) 75 (2 * nf) x) 74 + 1 = nI (nf + 1) := by rw [rI_sA, b5', nI_1]
          rw [e3]
        · rw [b3] at d8; exact Nat.le_trans (Nat.add_le_add_right d4 1) (by decide)
        · have : xs.length ≤ 8 := by rw [b3]; exact b6
          exact Nat.le_trans (Nat.add_le_add_right (Nat.le_trans d8 (Nat.add_le_add_left (Nat.mul_le_mul_left 2 this) 10)) 2) (by decide)
      by_cases hb : b = 0
      · rw [if_pos hb, if_pos hb]
        exact key 0 (Or.inl rfl)
      · rw [if_neg hb, if_neg hb]
        exact key 1 (Or.inr rfl)
