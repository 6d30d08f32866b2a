/-! LAWS: slip, wrists, learn, cure (own work) -/
set_option maxRecDepth 100000
theorem op_slip {a o : Nat} {g : GS} {σ : MS} (hr : Rel a o g σ) (what : Int32) : OpT [(1, 1)] a o (X1_slip a what g) (X4_slip what σ) := by
  obtain ⟨ρ, sc, v, n, k, h, y, m, T, hp⟩ := hr
  have hp0 := hp.m (s0_eq (c := 0))
  unfold X1_slip X4_slip
  cases hw : wi_ what 0 1 with
  | false =>
    refine OpT.ex (e := 1) (q := gz g) (r := 0) (g' := g) (σ' := s_I (s_I σ 0 0) 0 1) (dc := 1) (ds := 6) ?_ ?_ (hp0.r s0_eq) (by omega) (by omega) (List.mem_cons_self)
    · rw [X1_oneOf_f hw, e_tcr, e_b0]
    · rw [X4_isWhat_f s0_0 hw, e_cb, if_pos rfl]
  | true =>
    rw [X1_oneOf_t hw, e_tcl, bp_0, X4_isWhat_t s0_0 hw, e_cb, if_neg nn01]
    obtain ⟨g1, b1, b2, b3, b4⟩ := newtake hp0
    obtain ⟨-, hs1, hT6⟩ := hp0.1
    have b2' := b2.pu (f := 4) (w := 0) (b2.2.2.1.at4 (by decide)) ((Mf.sI (LI := [59, 60, 64]) (LA := []) (by decide)))
    obtain ⟨e, e', dc, ds, m1, m2, m3, m4, m5, m6, m7, m8⟩ := la2_t (body := fun a1 : Int32 × Int32 × GS => X1_slip_b28 what (gz g) a1.1 a1.2.1 a1.2.2) (body' := fun a : Int32 × Int32 × MS => X4_slip_b25 what a.1 a.2.1 a.2.2)
      (I := fun j a1 b c d => c = 0 ∧ d = 0 ∧ ∃ t, gI a1.2.2 (gz g) 4 = nI t ∧ m_I b.2.2 59 = nI t ∧ t ≤ 31 ∧ j = 31 - t ∧ a1.1 = b.1 ∧ a1.2.1 = b.2.1 ∧ TW a1.2.2 (nr ρ g 9) a sc v (gz g) y (gz g + 1) (gz g + 2) (gz g + 3) 2 m n k h b.2.2 ∧ Fr (fun q => q = v) g a1.2.2 ∧ Mf [59] [57, 58, 61, 62, 63] (s_I σ 0 0) b.2.2)
      (Q := fun e e' c d => c = 0 ∧ d = 0 ∧ e.1 = e'.1 ∧ e.2.1 = e'.2.1 ∧ Fr (fun q => q = v) g e.2.2 ∧ Mf [59] [57, 58, 61, 62, 63] (s_I σ 0 0) e'.2.2)
      (by
        rintro j ⟨b, bm, g2⟩ ⟨c1, c2, σ2⟩ c d ⟨c0, d0, t, e1, e2, t1, t2, e3, e4, e5, e6, e7⟩
        simp only at e1 e2 e3 e4 e5 e6 e7 ⊢
        subst c0 d0 e3 e4
        unfold X1_slip_b28 X4_slip_b25
        rw [e_wk e5.2.1.1.1, e1, e2]
        by_cases ht : t ≤ 30
        · have hlt : ¬ (30 : Int32) < nI t := nI_nlt (b := t) (a := 30) ht (by omega)
          obtain ⟨r, g4, σ4, f1, f2, f3, f4, f5, f6, f7, f8, f9⟩ := e5.rs (T := T) (by rw [e7.Af (by decide)]; exact hs1) hT6
          have hM4 : Mf [59] [57, 58, 61, 62, 63] (s_I σ 0 0) σ4 := e7.trans f8 (by decide) (fun _ k => k)
          have hF4 : Fr (fun q => q = v) g g4 := e6.trans f6 (fun q hq k => by
            rcases k with k | k | k | k
            · exact k
            · omega
            · omega
            · omega)
          have hl4 : m_I σ4 59 = nI t := by rw [f8.I (by decide), e2]
          have hl4' : gI g4 (gz g) 4 = nI t := by rw [f5.1.2.2.1.1.1, hl4]
          have hti : (nI (t + 1)).toInt = ((t + 1 : Nat) : Int) := i_n (by omega)
          have hT5 := f5.1.pu (f := 4) (w := nI (t + 1)) (f5.1.2.2.1.at4 (by omega)) ((Mf.sI (LI := [59, 60, 64]) (LA := []) (by decide)))
          have hF5 : Fr (fun q => q = v) g (pI g4 (gz g) 4 (nI (t + 1))) := hF4.trans (Fr.pI (W := fun q => q = gz g) rfl) (fun q hq k => by omega)
          have hM5 : Mf [59] [57, 58, 61, 62, 63] (s_I σ 0 0) (s_I σ4 59 (nI (t + 1))) := hM4.trans (Mf.sI (LI := [59]) (LA := []) (by decide)) (fun _ k => k) (by decide)
          have key : ∀ q1 q2 : Int32, ∃ a' b'' dc dk m', m' < j ∧ (some (Sum.inl (q1, q2, pI g4 (gz g) 4 (nI (t + 1))), 0, 0) : Option (((Int32 × Int32 × GS) ⊕ (Int32 × Int32 × GS)) × Nat × Nat)) = some (.inl a', dc, dk) ∧ (some (Sum.inl (q1, q2, s_I σ4 59 (nI (t + 1)))) : Option ((Int32 × Int32 × MS) ⊕ (Int32 × Int32 × MS))) = some (.inl b'') ∧ dc + 0 = 0 ∧ dk + 0 = 0 ∧ ∃ t, gI a'.2.2 (gz g) 4 = nI t ∧ m_I b''.2.2 59 = nI t ∧ t ≤ 31 ∧ m' = 31 - t ∧ a'.1 = b''.1 ∧ a'.2.1 = b''.2.1 ∧ TW a'.2.2 (nr ρ g 9) a sc v (gz g) y (gz g + 1) (gz g + 2) (gz g + 3) 2 m n k h b''.2.2 ∧ Fr (fun q => q = v) g a'.2.2 ∧ Mf [59] [57, 58, 61, 62, 63] (s_I σ 0 0) b''.2.2 :=
            fun q1 q2 => ⟨_, _, 0, 0, j - 1, by omega, rfl, rfl, rfl, rfl, t + 1, by show gI (pI g4 (gz g) 4 (nI (t + 1))) (gz g) 4 = _; rw [I_pI, if_pos ⟨rfl, rfl⟩], by show m_I (s_I σ4 59 (nI (t + 1))) 59 = _; rw [rI_sI, if_pos rfl], by omega, by omega, rfl, rfl, hT5, hF5, hM5⟩
          have hu4 := f5.1.2.1.1.1
          rw [if_neg hlt, if_neg hlt, f1, e_cb, e_wk hu4, f2, e_ob, f4, e_cb]
          unfold X1_slip_j61 X4_slip_j54 X1_slip_j70 X4_slip_j62
          rw [e_wk hu4, e_wk hu4, hl4', hl4, nI_1]
          by_cases q : b = -1
          · rw [if_pos q, if_pos q]
            exact Or.inl (key _ _)
          · rw [if_neg q, if_neg q]
            by_cases q2 : r < bm
            · rw [if_pos q2, if_pos q2]
              exact Or.inl (key _ _)
            · rw [if_neg q2, if_neg q2]
              rw [e_wk hu4]
              exact Or.inl (key _ _)
        · have hlt : (30 : Int32) < nI t := nI_lt (a := 30) (b := t) (by omega) (by omega)
          rw [if_pos hlt, if_pos hlt]
          exact Or.inr ⟨_, _, 0, 0, rfl, rfl, rfl, rfl, rfl, rfl, e6, e7⟩)
      fu_ 31 ((-1), 0, pI g1 (gz g) 4 0) ((-1), 0, s_I (s_I σ 0 0) 59 0) 0 0 ⟨rfl, rfl, 0, by show gI (pI g1 (gz g) 4 0) (gz g) 4 = _; rw [I_pI, if_pos ⟨rfl, rfl⟩]; rfl, by show m_I (s_I _ 59 0) 59 = _; rw [rI_sI, if_pos rfl]; rfl, Nat.zero_le _, rfl, rfl, rfl, b2', (b3.mono (W' := fun q => q = v) (fun _ _ k => k.elim)).trans (Fr.pI (W := fun q => q = gz g) rfl) (fun q hq k => by omega), Mf.sI (by decide)⟩ (by unfold fu_; omega)
    obtain ⟨e1, e2, e3⟩ := e
    obtain ⟨f1, f2, f3⟩ := e'
    simp only at m5 m6 m7 m8
    obtain ⟨rfl⟩ : dc = 0 := by omega
    obtain ⟨rfl⟩ : ds = 0 := by omega
    subst m5 m6
    have hav : ¬ a = gz g := by have := hp.1.1.1.2.2.1; omega
    have hrel := hp0.q m7 (nr_ag (r := 9)) (meqI (c := 59) hp0.2.2.1.1 m8 (by decide) (by decide))
    have hth : m_I (s_I f3 59 0) 0 = 0 := by rw [rI_sI, if_neg (by decide), m8.I (by decide)]; rfl
    rw [e_al, e_wk (by rw [K_nw, if_neg hav]; exact hp.1.1.1.1), R_nw, if_neg hav, hp.2.1.1, e_nn, b1, e_ca, e_wk b2.2.1.1.1, m1, e_oa, bp_0, m2, e_ob]
    by_cases hwh : what = 0
    · rw [if_pos hwh, if_pos hwh]
      exact OpT.ok (dc := 4) (ds := 1811) rfl rfl hrel (by omega) (by omega) hth
    · rw [if_neg hwh, if_neg hwh]
      exact OpT.ok (dc := 4) (ds := 1811) rfl rfl hrel (by omega) (by omega) hth
theorem mf_back {σ σ4 : MS} {f : Nat} {w : Int32} (h : Mf [] [57, 58, 61, 62, 63] (s_A σ 53 f w) σ4) : Mf [] [57, 58, 61, 62, 63] σ (s_A σ4 53 f (m_A σ 53 f)) := by
  refine ⟨fun k hk => h.I hk, fun j hj i => ?_⟩
  rw [rA_sA]
  by_cases q : j = 53 ∧ i = f
  · rw [if_pos q, q.1, q.2]
  · rw [if_neg q, h.A hj, rA_sA, if_neg q]
/-- one number otherwise -/
theorem TW.sw {g : GS} {ρ : Nat → Nat} {a sc v u x sa ra oa m n k h T f f' : Nat} {σ : MS} {c w : Int32} (hT : TW g ρ a sc v u x sa ra oa 10 m n k h (s_A σ 53 f' c)) (hs : sm_ (m_A σ 9) n = nI T) (hT6 : T ≤ 600) (hk : (f = 0 ∧ f' = 0) ∨ (f = 1 ∧ f' = 1) ∨ (f = 2 ∧ f' = 2) ∨ (f = 3 ∧ f' = 3) ∨ (f = 4 ∧ f' = 5) ∨ (f = 5 ∧ f' = 4))
    (hw : (f' = 1 ∧ 0 ≤ w.toInt ∧ w.toInt ≤ 24) ∨ (f' = 2 ∧ 1 ≤ w.toInt ∧ w.toInt ≤ 90) ∨ (f' = 3 ∧ -30 ≤ w.toInt ∧ w.toInt ≤ 30) ∨ (f' = 5 ∧ -1 ≤ w.toInt ∧ w.toInt < h) ∨ (f' = 0 ∧ 1 ≤ w.toInt ∧ w.toInt ≤ 60) ∨ (f' = 4 ∧ 0 ≤ w.toInt ∧ w.toInt ≤ 200) ∨ (6 ≤ f' ∧ 12 ≤ w.toInt ∧ w.toInt ≤ 480)) (hf12 : f' < 12) :
    ∃ r g' σ', gK g x = 3 ∧ X11_run u (pI g x f w) = some (u, g') ∧ X11_sharp u g' = some r ∧ X4_sharpWith (nI f') w σ = some (r, σ') ∧ TW g' ρ a sc v u x sa ra oa 10 m n k h (s_A σ' 53 f' w) ∧ gK g' u = 10 ∧ Fr (fun q => tw_ v sa ra oa q ∨ q = x) g g' ∧ Mf [] [57, 58, 61, 62, 63] σ σ' := by
  have hT2 := hT.px hk (w := w) (hT.2.2.2.2.2.2.put hw)
  rw [sA_sA] at hT2
  have hx := hT.2.2.2.2.1.1
  obtain ⟨r, g4, σ4, f1, f2, f3, f4, f5, f6, f7, f8, f9⟩ := hT2.rs (T := T) (by rw [(Mf.sA (LI := []) (LA := [53]) (by decide)).Af (by decide)]; exact hs) hT6
  have hw4 : m_A σ4 53 f' = w := by rw [f8.A (by decide), rA_sA, if_pos ⟨rfl, rfl⟩]
  refine ⟨r, g4, s_A σ4 53 f' (m_A σ 53 f'), hx, f1, f2, ?_, ?_, f5.1.2.1.1.1, (Fr.pI (W := fun q => tw_ v sa ra oa q ∨ q = x) (Or.inr rfl)).trans f6 (fun _ _ k => Or.inl k), mf_back f8⟩
  · unfold X4_sharpWith
    rw [e_inN hf12 (by omega), e_inN hf12 (by omega), nI_clamp (by omega), f4, e_cb, e_inN hf12 (by omega)]
  · rw [sA_sA, sA_id hw4.symm]
    exact f5.1
theorem op_wrists {a o : Nat} {g : GS} {σ : MS} (hr : Rel a o g σ) : OpI a o (X1_wrists a g) (X4_wrists σ) := by
  obtain ⟨ρ, sc, v, n, k, h, y, m, T, hp⟩ := hr
  have hp0 := hp.m (s0_eq (c := 0))
  obtain ⟨-, hs1, hT6⟩ := hp0.1
  obtain ⟨g1, g2, ρ2, dc1, ds1, a1, a2, a3, a4, a5, a6, a7, a8, a9, a10⟩ := newtakec hp0
  obtain ⟨e, e', dc, ds, m1, m2, m3, m4, m5, m6, m7⟩ := la2_t (body := fun a1 : Int32 × Int32 × Int32 × GS => X1_wrists_b23 (gz g) a1.1 a1.2.1 a1.2.2.1 a1.2.2.2) (body' := fun a : Int32 × Int32 × Int32 × MS => X4_wrists_b11 a.1 a.2.1 a.2.2.1 a.2.2.2)
    (I := fun j a1 b c d => c = 0 ∧ d = 0 ∧ ∃ t, a1.2.2.1 = nI t ∧ b.2.2.1 = nI t ∧ 1 ≤ t ∧ t ≤ 91 ∧ j = 91 - t ∧ a1.1 = b.1 ∧ a1.2.1 = b.2.1 ∧ (∃ w, TW a1.2.2.2 ρ2 a sc v (gz g) (gz g + 1) (gz g1) (gz g1 + 1) (gz g1 + 2) 10 m n k h (s_A b.2.2.2 53 2 w)) ∧ Fr (fun q => q = v) g a1.2.2.2 ∧ Mf [] [57, 58, 61, 62, 63] (s_I σ 0 0) b.2.2.2)
    (Q := fun e e' c d => c = 0 ∧ d = 0 ∧ e.1 = e'.1 ∧ Fr (fun q => q = v) g e.2 ∧ Mf [] [57, 58, 61, 62, 63] (s_I σ 0 0) e'.2)
    (by
      rintro j ⟨b, bm, i1, g3⟩ ⟨c1, c2, i2, σ3⟩ c d ⟨c0, d0, t, e1, e2, t0, t1, t2, e3, e4, ⟨w, e5⟩, e6, e7⟩
      simp only at e1 e2 e3 e4 e5 e6 e7 ⊢
      subst c0 d0 e1 e2 e3 e4
      unfold X1_wrists_b23 X4_wrists_b11
      by_cases ht : t ≤ 90
      · have hlt : ¬ (90 : Int32) < nI t := nI_nlt (b := t) (a := 90) ht (by omega)
        have hti : (nI t).toInt = (t : Int) := i_n (by omega)
        obtain ⟨r, g4, σ4, f0, f1, f2, f3, f4, f5, f6, f7⟩ := e5.sw (T := T) (f := 2) (w := nI t) (by rw [e7.Af (by decide)]; exact hs1) hT6 (by omega) (by omega) (by omega)
        have hu := e5.2.1
        have hF4 : Fr (fun q => q = v) g g4 := e6.trans f6 (fun q hq k => by
          rcases k with (k | k | k | k) | k
          · exact k
          · omega
          · omega
          · omega
          · omega)
        have hM4 := e7.trans f7 (fun _ k => k) (fun _ k => k)
        rw [if_neg hlt, if_neg hlt, e_wk hu.1.1, hu.2.1.1, e_nn, e_wk f0, f1, e_cb, e_wk f5, f2, e_ob, show (2 : Int32) = nI 2 from rfl, f3, e_cb]
        unfold X1_wrists_j63 X4_wrists_j39
        rw [nI_1]
        by_cases q : bm < r
        · rw [if_pos q, if_pos q]
          exact Or.inl ⟨_, _, 0, 0, j - 1, by omega, rfl, rfl, rfl, rfl, t + 1, rfl, rfl, by omega, by omega, by omega, rfl, rfl, ⟨nI t, f4⟩, hF4, hM4⟩
        · rw [if_neg q, if_neg q]
          exact Or.inl ⟨_, _, 0, 0, j - 1, by omega, rfl, rfl, rfl, rfl, t + 1, rfl, rfl, by omega, by omega, by omega, rfl, rfl, ⟨nI t, f4⟩, hF4, hM4⟩
      · have hlt : (90 : Int32) < nI t := nI_lt (a := 90) (b := t) (by omega) (by omega)
        rw [if_pos hlt, if_pos hlt]
        exact Or.inr ⟨_, _, 0, 0, rfl, rfl, rfl, rfl, rfl, e6, e7⟩)
    fu_ 90 (0, (-1), 1, g2) (0, (-1), 1, s_I σ 0 0) 0 0 ⟨rfl, rfl, 1, rfl, rfl, Nat.le_refl _, by omega, rfl, rfl, rfl, ⟨m_A (s_I σ 0 0) 53 2, by rw [sA_id rfl]; exact a3⟩, a5.mono (fun _ _ k => k.elim), Mf.rf⟩ (by unfold fu_; omega)
  obtain ⟨e1, e2⟩ := e
  obtain ⟨f1, f2⟩ := e'
  simp only at m5 m6 m7
  obtain ⟨rfl⟩ : dc = 0 := by omega
  obtain ⟨rfl⟩ : ds = 0 := by omega
  subst m5
  have hC := hp.1.1
  have hav : ¬ a = gz g := by have := hC.1.2.2.1; omega
  have hyv : ¬ y = gz g := by have := hp.2.1.2.1.2.2.1; omega
  refine ⟨e1, e2, 3 + dc1 + 1, 1803 + ds1 + 8, f2, ?_, ?_, hp0.q m6 a6 (m7.eq (by decide) (by decide)), by omega, by omega⟩
  · unfold X1_wrists
    rw [e_al, e_wk (by rw [K_nw, if_neg hav]; exact hC.1.1), R_nw, if_neg hav, hp.2.1.1, e_nn, e_wk (by rw [K_nw, if_neg hyv]; exact hp.2.1.2.1.1), a1, e_ca, a2, e_ca, m1, e_oa, bp_0, e_b0, e_bp, e_bp]
  · unfold X4_wrists
    rw [m2, e_ob]
theorem learn_val {ey d : Int32} {t : Nat} (hd : d.toInt = (t : Int)) (ht : t ≤ 31) (heyr : -30 ≤ ey.toInt ∧ ey.toInt ≤ 30) (h0 : ey.toInt = 0 → t = 0) : (ey - d * sg_ ey).toInt = (if 0 < ey.toInt then ey.toInt - t else ey.toInt + t) ∧ (if ey ≤ 0 then ey + d else ey - d) = ey - d * sg_ ey := by
  unfold sg_
  simp only [i_lt, i_le, k_0]
  by_cases q1 : 0 < ey.toInt
  · rw [if_pos q1, if_pos q1, if_neg (show ¬ ey.toInt ≤ 0 by omega), Int32.mul_one]
    exact ⟨by rw [i_sub (by omega) (by omega), hd], rfl⟩
  · rw [if_neg q1, if_neg q1]
    by_cases q2 : ey.toInt < 0
    · rw [if_pos q2, if_pos (show ey.toInt ≤ 0 by omega), Int32.mul_neg, Int32.mul_one, Int32.sub_neg]
      exact ⟨by rw [i_add (by omega) (by omega), hd], rfl⟩
    · rw [if_neg q2, if_pos (show ey.toInt ≤ 0 by omega), Int32.mul_zero, Int32.sub_zero]
      have q6 := h0 (by omega)
      subst q6
      have q7 : d = 0 := by rw [i_eq, hd, k_0]; rfl
      refine ⟨by omega, ?_⟩
      rw [q7, Int32.add_zero]
theorem op_learn {a o : Nat} {g : GS} {σ : MS} (hr : Rel a o g σ) : OpI a o (X1_learn a g) (X4_learn σ) := by
  obtain ⟨ρ, sc, v, n, k, h, y, m, T, hp⟩ := hr
  have hp0 := hp.m (s0_eq (c := 0))
  obtain ⟨-, hs1, hT6⟩ := hp0.1
  obtain ⟨g1, g2, ρ2, dc1, ds1, a1, a2, a3, a4, a5, a6, a7, a8, a9, a10⟩ := newtakec hp0
  obtain ⟨ey, hey⟩ : ∃ ey, ey = m_A (s_I σ 0 0) 53 3 := ⟨_, rfl⟩
  have heyr : -30 ≤ ey.toInt ∧ ey.toInt ≤ 30 := by rw [hey]; exact hp0.2.1.2.2.2.2.2.2.1
  have hC := hp.1.1
  have hva : ¬ a = v := by
    intro q
    have q1 := hp.1.1.1.1
    rw [q, hp.1.1.2.1.1] at q1
    omega
  have hyv' : ¬ y = v := by
    intro q
    have q1 := hp.2.1.2.1.1
    rw [q, hp.1.1.2.1.1] at q1
    omega
  have hsg := sg_l (v := ey) (by omega)
  have hoff := off_l (x := ey) (y := 0) (by omega) (by rw [k_0]; omega)
  have hab : (jabs_ ey).toInt = if 0 ≤ ey.toInt then ey.toInt else 0 - ey.toInt := by
    have h1 := hoff.2
    rw [Int32.sub_zero, k_0] at h1
    rw [h1]
    split <;> omega
  obtain ⟨e, e', dc, ds, m1, m2, m3, m4, m5, m6, m7⟩ := la2_t (body := fun a1 : Int32 × Int32 × Int32 × GS => X1_learn_b23 a (gz g) a1.1 a1.2.1 a1.2.2.1 a1.2.2.2) (body' := fun a : Int32 × Int32 × Int32 × MS => X4_learn_b19 ey a.1 a.2.1 a.2.2.1 a.2.2.2)
    (I := fun j a1 b c d => c = 0 ∧ d = 0 ∧ ∃ t, a1.2.2.1 = nI t ∧ b.2.2.1 = nI t ∧ t ≤ 31 ∧ j = 31 - t ∧ a1.1 = b.1 ∧ a1.2.1 = b.2.1 ∧ (∃ w, TW a1.2.2.2 ρ2 a sc v (gz g) (gz g + 1) (gz g1) (gz g1 + 1) (gz g1 + 2) 10 m n k h (s_A b.2.2.2 53 3 w)) ∧ Fr (fun q => q = v) g a1.2.2.2 ∧ Mf [] [57, 58, 61, 62, 63] (s_I σ 0 0) b.2.2.2)
    (Q := fun e e' c d => c = 0 ∧ d = 0 ∧ e.1 = e'.1 ∧ Fr (fun q => q = v) g e.2 ∧ Mf [] [57, 58, 61, 62, 63] (s_I σ 0 0) e'.2)
    (by
      rintro j ⟨b, bm, i1, g3⟩ ⟨c1, c2, i2, σ3⟩ c d ⟨c0, d0, t, e1, e2, t1, t2, e3, e4, ⟨w, e5⟩, e6, e7⟩
      simp only at e1 e2 e3 e4 e5 e6 e7 ⊢
      subst c0 d0 e1 e2 e3 e4
      have ha3 : gK g3 a = 1 := by rw [e6.K hC.1.2.2.1, hC.1.1]
      have hay : gR g3 a 1 = y + 1 := by rw [e6.R hC.1.2.2.1 hva, hp.2.1.1]
      have hky : gK g3 y = 3 := by rw [e6.K hp.2.1.2.1.2.2.1, hp.2.1.2.1.1]
      have hey3 : gI g3 y 3 = ey := by rw [e6.I hp.2.1.2.1.2.2.1 hyv', hp0.2.1.2.1.2.2.2.1.2.2.2.1, hey]
      have hti : (nI t).toInt = (t : Int) := i_n (by omega)
      unfold X1_learn_b23 X4_learn_b19
      rw [e_wk ha3, hay, e_nn, e_wk hky, hey3, off0_l, e_ob]
      by_cases ht : jabs_ ey < nI t
      · rw [if_pos ht, if_pos ht]
        exact Or.inr ⟨_, _, 0, 0, rfl, rfl, rfl, rfl, rfl, e6, e7⟩
      · have ht' := ht
        rw [i_lt, hab, hti] at ht'
        have ht30 : t ≤ 30 := by
          split at ht'
          · omega
          · omega
        -- the value
        obtain ⟨wv, hwv⟩ : ∃ wv, wv = ey - nI t * sg_ ey := ⟨_, rfl⟩
        have hval := learn_val (ey := ey) (d := nI t) hti t1 heyr (fun q => by rw [if_pos (by omega)] at ht'; omega)
        rw [← hwv] at hval
        have hwr : -30 ≤ wv.toInt ∧ wv.toInt ≤ 30 := by
          have q := hval.1
          split at ht' <;> split at q <;> omega
        obtain ⟨r, g4, σ4, f0, f1, f2, f3, f4, f5, f6, f7⟩ := e5.sw (T := T) (f := 3) (w := wv) (by rw [e7.Af (by decide)]; exact hs1) hT6 (by omega) (by omega) (by omega)
        have hu := e5.2.1
        have hF4 : Fr (fun q => q = v) g g4 := e6.trans f6 (fun q hq k => by
          rcases k with (k | k | k | k) | k
          · exact k
          · omega
          · omega
          · omega
          · omega)
        have hM4 := e7.trans f7 (fun _ k => k) (fun _ k => k)
        rw [if_neg ht, if_neg ht, e_wk hu.1.1, hu.2.1.1, e_nn, e_nn, e_wk hky, e_nn, e_wk hky, hey3, hsg, e_ob, e_wk f0, ← hwv, f1, e_cb, e_wk f5, f2, e_ob]
        have hmod : (if ey ≤ 0 then X4_learn_j46 ey b bm (nI t) 3 (ey + nI t) σ3 else X4_learn_j46 ey b bm (nI t) 3 (ey - nI t) σ3) = X4_learn_j46 ey b bm (nI t) (nI 3) wv σ3 := by
          rw [← hval.2]
          split <;> rfl
        rw [hmod]
        unfold X4_learn_j46 X1_learn_j90 X4_learn_j66
        rw [f3, e_cb, nI_1]
        by_cases q : bm < r
        · rw [if_pos q, if_pos q]
          exact Or.inl ⟨_, _, 0, 0, j - 1, by omega, rfl, rfl, rfl, rfl, t + 1, rfl, rfl, by omega, by omega, rfl, rfl, ⟨wv, f4⟩, hF4, hM4⟩
        · rw [if_neg q, if_neg q]
          exact Or.inl ⟨_, _, 0, 0, j - 1, by omega, rfl, rfl, rfl, rfl, t + 1, rfl, rfl, by omega, by omega, rfl, rfl, ⟨wv, f4⟩, hF4, hM4⟩)
    fu_ 31 (0, (-1), 0, g2) (0, (-1), 0, s_I σ 0 0) 0 0 ⟨rfl, rfl, 0, rfl, rfl, Nat.zero_le _, rfl, rfl, rfl, ⟨m_A (s_I σ 0 0) 53 3, by rw [sA_id rfl]; exact a3⟩, a5.mono (fun _ _ k => k.elim), Mf.rf⟩ (by unfold fu_; omega)
  obtain ⟨e1, e2⟩ := e
  obtain ⟨f1, f2⟩ := e'
  simp only at m5 m6 m7
  obtain ⟨rfl⟩ : dc = 0 := by omega
  obtain ⟨rfl⟩ : ds = 0 := by omega
  subst m5
  have hav : ¬ a = gz g := by have := hC.1.2.2.1; omega
  have hyv : ¬ y = gz g := by have := hp.2.1.2.1.2.2.1; omega
  refine ⟨e1, e2, 3 + dc1 + 1, 1803 + ds1 + 8, f2, ?_, ?_, hp0.q m6 a6 (m7.eq (by decide) (by decide)), by omega, by omega⟩
  · unfold X1_learn
    rw [e_al, e_wk (by rw [K_nw, if_neg hav]; exact hC.1.1), R_nw, if_neg hav, hp.2.1.1, e_nn, e_wk (by rw [K_nw, if_neg hyv]; exact hp.2.1.2.1.1), a1, e_ca, a2, e_ca, m1, e_oa, bp_0, e_b0, e_bp, e_bp]
  · unfold X4_learn
    rw [e_i3 (by omega) (by omega), cl_3, show m_A σ 53 3 = ey from hey.symm, m2, e_ob]
