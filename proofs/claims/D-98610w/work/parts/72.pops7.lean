/-! LAWS: cure, best, lags, takes, fits (own work) -/
set_option maxRecDepth 100000
/-- a copy of the settings with one number otherwise, and a take over it -/
theorem sharpBy_l {a o sc v n k h x m T : Nat} {g : GS} {ρ : Nat → Nat} {σ : MS} (hp : RelP a o sc v n k h x m T g ρ σ) {f f' : Nat} {w : Int32} (hk : (f = 0 ∧ f' = 0) ∨ (f = 1 ∧ f' = 1) ∨ (f = 2 ∧ f' = 2) ∨ (f = 3 ∧ f' = 3) ∨ (f = 4 ∧ f' = 5) ∨ (f = 5 ∧ f' = 4))
    (hw : (f' = 1 ∧ 0 ≤ w.toInt ∧ w.toInt ≤ 24) ∨ (f' = 2 ∧ 1 ≤ w.toInt ∧ w.toInt ≤ 90) ∨ (f' = 3 ∧ -30 ≤ w.toInt ∧ w.toInt ≤ 30) ∨ (f' = 5 ∧ -1 ≤ w.toInt ∧ w.toInt < h) ∨ (f' = 0 ∧ 1 ≤ w.toInt ∧ w.toInt ≤ 60) ∨ (f' = 4 ∧ 0 ≤ w.toInt ∧ w.toInt ≤ 200) ∨ (6 ≤ f' ∧ 12 ≤ w.toInt ∧ w.toInt ≤ 480)) (hf12 : f' < 12) :
    ∃ g1 dc1 ds1 r g2 ρ2 dc ds σ2, X3_copy x g = some ((gz g, g1), dc1, ds1) ∧ gK g1 (gz g) = 3 ∧ gK g1 a = 1 ∧ X1_sharpBy a (gz g) (pI g1 (gz g) f w) = some ((r, g2), dc, ds) ∧ X4_sharpWith (nI f') w σ = some (r, σ2) ∧ Fr (fun q => q = v) g g2 ∧ Ag g ρ ρ2 ∧ Mf [] [57, 58, 61, 62, 63] σ σ2 ∧ dc1 + dc ≤ 12 ∧ ds1 + ds ≤ 1901 := by
  obtain ⟨⟨hC, hs1, hT6⟩, ⟨n1, n2, ⟨n3, n3'⟩, n4⟩, hZ, -, -, -, -, -, -, -, hE, -⟩ := hp
  obtain ⟨g1, dc1, ds1, a1, a2, a3, a4, a5, a6⟩ := X3_copy_l hE.1 n2 n3' 10
  have ha := hC.1.2.2.1
  have hA1 : Ag g ρ (nr ρ g 10) := nr_ag
  obtain ⟨g1', hg1'⟩ : ∃ g1', g1' = pI g1 (gz g) f w := ⟨_, rfl⟩
  have F1 : Fr no_ g g1' := by rw [hg1']; exact a3.trans (Fr.pI (W := fun q => q = gz g) rfl) (fun q hq k => by omega)
  have z1 : gz g1' = gz g1 := by rw [hg1']; rfl
  obtain ⟨row, hrow⟩ : ∃ row : Nat → Int32, row = fun i => if i = f' then w else m_A σ 53 i := ⟨_, rfl⟩
  have a2' : SetP g1' (nr ρ g 10) 10 (gz g) m row := by rw [hg1', hrow]; exact a2.put hk
  -- the take
  obtain ⟨g3, hg3⟩ : ∃ g3, g3 = nw_ g1' 10 8 := ⟨_, rfl⟩
  have F3 : Fr no_ g1' g3 := by rw [hg3]; exact Fr.nw
  have F13 : Fr no_ g g3 := F1.trans F3 (fun _ _ k => k)
  have hA3 : Ag g1' (nr ρ g 10) (nr (nr ρ g 10) g1' 9) := nr_ag
  have hA13 : Ag g ρ (nr (nr ρ g 10) g1' 9) := hA1.trans hA3 F1.z
  have hM : Mf [] [53] σ (s_A σ 53 f' w) := Mf.sA (by decide)
  have hrow' : m_A (s_A σ 53 f' w) 53 = row := by
    rw [hrow]
    funext i
    rw [rA_sA]
    by_cases q : i = f'
    · rw [if_pos ⟨rfl, q⟩, if_pos q]
    · rw [if_neg (by rintro ⟨-, k⟩; exact q k), if_neg q]
  have hC3 : CW g3 (nr (nr ρ g 10) g1' 9) a sc v n k h (s_A σ 53 f' w) := hC.to F13 hA13 (fun _ _ _ k => k) ⟨F13.R ha (fun k => k) 0, F13.R ha (fun k => k) 2⟩ hM (by decide) (by decide)
  have hR' : RowOK row m h := by rw [hrow]; exact n4.put hw
  have hZ' : ZeP (s_A σ 53 f' w) := hZ
  obtain ⟨g4, b1, b2, b3, b4⟩ := tkinit (u := gz g1') (s := gz g) (r := 10) (m := m) hC3 ⟨⟨by omega, by omega⟩, by rw [hrow']; exact a2'.to F3 hA3 (fun _ _ _ k => k), ⟨n3, n3'⟩, by rw [hrow']; exact hR'⟩ ⟨by rw [hg3, K_nw, if_pos rfl], nr_ge (Nat.le_refl _), by rw [hg3, z_nw]; omega⟩ (TnP0 hZ' (by rw [hg3, I_nw, if_pos rfl]) (by rw [hg3, I_nw, if_pos rfl]) (by rw [hg3, I_nw, if_pos rfl]))
  obtain ⟨r, g5, σ5, f1, f2, f3, f4, f5, f6, f7, f8, f9⟩ := b2.rs (T := T) (by rw [hM.Af (by decide)]; exact hs1) hT6
  have F4 : Fr no_ g g4 := F13.trans b3 (fun q hq k => by have := F1.z; omega)
  have z3 : gz g3 = gz g1' + 1 := by rw [hg3]; rfl
  have F5 : Fr (fun q => q = v) g g5 := (F4.mono (W' := fun q => q = v) (fun _ _ k => k.elim)).trans f6 (fun q hq k => by
    have := F1.z
    rcases k with k | k | k | k
    · exact k
    · omega
    · omega
    · omega)
  refine ⟨g1, dc1, ds1, r, g5, nr (nr (nr ρ g 10) g1' 9) g3 9, 4, 1811, s_A σ5 53 f' (m_A σ 53 f'), a1, a2.1, ?_, ?_, ?_, F5, hA13.trans nr_ag F13.z, mf_back f8, by omega, by omega⟩
  · rw [a3.K ha, hC.1.1]
  · unfold X1_sharpBy
    rw [← hg1', e_al, ← hg3, b1, e_ca, e_wk b2.2.1.1.1, f1, e_cb, e_wk f5.1.2.1.1.1, f2, e_ob]
    rfl
  · unfold X4_sharpWith
    rw [e_inN hf12 (by omega), e_inN hf12 (by omega), nI_clamp (by omega), f4, e_cb, e_inN hf12 (by omega)]
theorem op_cure {a o : Nat} {g : GS} {σ : MS} (hr : Rel a o g σ) : OpI a o (X1_cure a g) (X4_cure σ) := by
  obtain ⟨ρ, sc, v, n, k, h, y, m, T, hp⟩ := hr
  have hp0 := hp.m (s0_eq (c := 0))
  obtain ⟨g', σ', b1, b2, b3, b4, b5, b6⟩ := take_l hp0
  have hx := b3.x
  have hsh := X11_sharp_l b3.of hx.1 hx.2.1
  rw [hx.2.2.1] at hsh
  have hts : X4_takesSharp (s_I σ 0 0) = some (cnt_ (m_A σ' 63) (m_A σ' 53 0) T, σ') := by
    unfold X4_takesSharp
    rw [b2, e_ob, X4_sharpMany_l b3.la, e_ob]
  have hva : a ≠ v := by
    intro q
    have h1 := hp.1.1.1.1
    rw [q, hp.1.1.2.1.1] at h1
    omega
  have ha := hp.1.1.1.2.2.1
  obtain ⟨e, e', dc, ds, m1, m2, m3, m4, m5, ⟨ρe, m6⟩, m7⟩ := la2_t (body := fun a1 : Int32 × Int32 × Int32 × GS => X1_cure_b12 a a1.1 a1.2.1 a1.2.2.1 a1.2.2.2) (body' := fun a : Int32 × Int32 × Int32 × MS => X4_cure_b14 a.1 a.2.1 a.2.2.1 a.2.2.2)
    (I := fun j a1 b c d => ∃ t, a1.2.2.1 = nI t ∧ b.2.2.1 = nI t ∧ t ≤ 3 ∧ j = 3 - t ∧ c ≤ 12 * t ∧ d ≤ 1901 * t ∧ a1.1 = b.1 ∧ a1.2.1 = b.2.1 ∧ (∃ ρ1, RelP a o sc v n k h y m T a1.2.2.2 ρ1 b.2.2.2) ∧ Mf [] [57, 58, 61, 62, 63] (s_I σ 0 0) b.2.2.2)
    (Q := fun e e' c d => c ≤ 36 ∧ d ≤ 5703 ∧ e.1 = e'.1 ∧ (∃ ρ1, RelP a o sc v n k h y m T e.2 ρ1 e'.2) ∧ Mf [] [57, 58, 61, 62, 63] (s_I σ 0 0) e'.2)
    (by
      rintro j ⟨b, bm, i1, g2⟩ ⟨c1, c2, i2, σ2⟩ c d ⟨t, e1, e2, t1, t2, c0, d0, e3, e4, ⟨ρ1, e5⟩, e6⟩
      simp only at e1 e2 e3 e4 e5 e6 ⊢
      subst e1 e2 e3 e4
      unfold X1_cure_b12 X4_cure_b14
      have key : ∀ (f f' : Nat) (w : Int32), t < 3 → ((f = 0 ∧ f' = 0) ∨ (f = 1 ∧ f' = 1) ∨ (f = 2 ∧ f' = 2) ∨ (f = 3 ∧ f' = 3) ∨ (f = 4 ∧ f' = 5) ∨ (f = 5 ∧ f' = 4)) → ((f' = 1 ∧ 0 ≤ w.toInt ∧ w.toInt ≤ 24) ∨ (f' = 2 ∧ 1 ≤ w.toInt ∧ w.toInt ≤ 90) ∨ (f' = 3 ∧ -30 ≤ w.toInt ∧ w.toInt ≤ 30) ∨ (f' = 5 ∧ -1 ≤ w.toInt ∧ w.toInt < h) ∨ (f' = 0 ∧ 1 ≤ w.toInt ∧ w.toInt ≤ 60) ∨ (f' = 4 ∧ 0 ≤ w.toInt ∧ w.toInt ≤ 200) ∨ (6 ≤ f' ∧ 12 ≤ w.toInt ∧ w.toInt ≤ 480)) → f' < 12 →
          ∃ a' b'' dc dk m', m' < j ∧ (ca_ (X3_copy y g2) fun r17 g16 => wk_ g16 r17 3 <| X1_cure_j60 a b bm (nI t) r17 (pI g16 r17 f w)) = some (.inl a', dc, dk) ∧ X4_cure_j49 b bm (nI t) (nI f') w σ2 = some (.inl b'') ∧ ∃ t, a'.2.2.1 = nI t ∧ b''.2.2.1 = nI t ∧ t ≤ 3 ∧ m' = 3 - t ∧ dc + c ≤ 12 * t ∧ dk + d ≤ 1901 * t ∧ a'.1 = b''.1 ∧ a'.2.1 = b''.2.1 ∧ (∃ ρ1, RelP a o sc v n k h y m T a'.2.2.2 ρ1 b''.2.2.2) ∧ Mf [] [57, 58, 61, 62, 63] (s_I σ 0 0) b''.2.2.2 := by
        intro f f' w ht hk hw hf
        obtain ⟨g3, dc1, ds1, r, g4, ρ2, dc, ds, σ4, q1, q2, q3, q4, q5, q6, q7, q8, q9, q10⟩ := sharpBy_l e5 hk hw hf
        have hR4 : RelP a o sc v n k h y m T g4 ρ2 σ4 := by
          refine e5.to q6 q7 (fun q _ k => by rw [k]; exact Or.inr (Or.inl e5.1.1.2.1.2.2.1)) (fun i => q6.R e5.1.1.1.2.2.1 hva i) (fun i _ => q6.I e5.1.1.1.2.2.1 hva i) (q8.eq (by decide) (by decide))
        have hM4 := e6.trans q8 (fun _ k => k) (fun _ k => k)
        unfold X1_cure_j60 X4_cure_j49 X1_cure_j82 X4_cure_j68
        rw [q1, e_ca, e_wk q2, e_wk (by exact q3), q4, e_ca, q5, e_cb, nI_1]
        by_cases q : bm < r
        · rw [if_pos q, if_pos q, e_b0, e_bp]
          exact ⟨_, _, _, _, j - 1, by omega, rfl, rfl, t + 1, rfl, rfl, by omega, by omega, by omega, by omega, rfl, rfl, ⟨ρ2, hR4⟩, hM4⟩
        · rw [if_neg q, if_neg q, e_b0, e_bp]
          exact ⟨_, _, _, _, j - 1, by omega, rfl, rfl, t + 1, rfl, rfl, by omega, by omega, by omega, by omega, rfl, rfl, ⟨ρ2, hR4⟩, hM4⟩
      have hwk : gK g2 a = 1 ∧ gR g2 a 1 = y + 1 ∧ gK g2 y = 3 := ⟨e5.1.1.1.1, e5.2.1.1, e5.2.1.2.1.1⟩
      by_cases ht : t < 3
      · have hlt : ¬ (3 : Int32) ≤ nI t := nI_ge (b := 3) (a := t) ht (by omega)
        rw [if_neg hlt, if_neg hlt, e_wk hwk.1, hwk.2.1, e_nn, e_wk hwk.2.2]
        unfold X4_cure_j38
        match t, ht with
        | 0, ht =>
          simp only [show (nI 0 = 0) = True from eq_true rfl, show (nI 0 = 2) = False from eq_false (by decide), if_true, if_false]
          exact Or.inl (key 3 3 0 ht (by omega) (Or.inr (Or.inr (Or.inl ⟨rfl, by decide, by decide⟩))) (by omega))
        | 1, ht =>
          simp only [show (nI 1 = 0) = False from eq_false (by decide), show (nI 1 = 1) = True from eq_true rfl, show (nI 1 = 2) = False from eq_false (by decide), if_true, if_false]
          exact Or.inl (key 1 1 0 ht (by omega) (Or.inl ⟨rfl, by decide, by decide⟩) (by omega))
        | 2, ht =>
          simp only [show (nI 2 = 0) = False from eq_false (by decide), show (nI 2 = 1) = False from eq_false (by decide), show (nI 2 = 2) = True from eq_true rfl, if_true, if_false]
          exact Or.inl (key 2 2 90 ht (by omega) (Or.inr (Or.inl ⟨rfl, by decide, by decide⟩)) (by omega))
      · have hlt : (3 : Int32) ≤ nI t := nI_le (a := 3) (b := t) (by omega) (by omega)
        rw [if_pos hlt, if_pos hlt]
        exact Or.inr ⟨_, _, 0, 0, rfl, rfl, by omega, by omega, rfl, ⟨ρ1, e5⟩, e6⟩)
    fu_ 3 ((-1), cnt_ (m_A σ' 63) (m_A σ' 53 0) T, 0, g') ((-1), cnt_ (m_A σ' 63) (m_A σ' 53 0) T, 0, σ') 0 0 ⟨0, rfl, rfl, by omega, rfl, by omega, by omega, rfl, rfl, ⟨nr ρ g 9, hp0.to b4 nr_ag (fun q _ k => by rw [k]; exact Or.inr (Or.inl hp.1.1.2.1.2.2.1)) (fun i => b4.R ha hva i) (fun i _ => b4.I ha hva i) (b6.eq (by decide) (by decide))⟩, b6⟩ (by unfold fu_; omega)
  obtain ⟨e1, e2⟩ := e
  obtain ⟨f1, f2⟩ := e'
  simp only at m5 m6 m7
  subst m5
  refine ⟨e1, e2, dc + 4, ds + 1811, f2, ?_, ?_, ⟨ρe, sc, v, n, k, h, y, m, T, m6⟩, by omega, by omega⟩
  · unfold X1_cure
    rw [e_wk hp.1.1.1.1, b1, e_ca, e_wk hx.2.2.2.1, hsh, e_ob, m1, e_oa, e_b0, e_bp]
  · unfold X4_cure
    rw [hts, e_cb, m2, e_ob]
theorem op_best {a o : Nat} {g : GS} {σ : MS} (hr : Rel a o g σ) (what : Int32) : OpT [(1, 1)] a o (X1_best a what g) (X4_best what σ) := by
  obtain ⟨ρ, sc, v, n, k, h, y, m, T, hp⟩ := hr
  have hp0 := hp.m (s0_eq (c := 0))
  obtain ⟨-, hs1, hT6⟩ := hp0.1
  unfold X1_best X4_best
  cases hw : wi_ what 0 3 with
  | false =>
    refine OpT.ex (e := 1) (q := gz g) (r := 0) (g' := g) (σ' := s_I (s_I σ 0 0) 0 1) (dc := 1) (ds := 6) ?_ ?_ (hp0.r s0_eq) (by omega) (by omega) (List.mem_cons_self)
    · rw [X1_oneOf_f hw, e_tcr, e_b0]
    · rw [X4_isWhat_f s0_0 hw, e_cb, if_pos rfl]
  | true =>
    rw [X1_oneOf_t hw, e_tcl, bp_0, X4_isWhat_t s0_0 hw, e_cb, if_neg nn01]
    obtain ⟨g1, g2, ρ2, dc1, ds1, a1, a2, a3, a4, a5, a6, a7, a8, a9, a10⟩ := newtakec hp0
    have hC := hp0.1.1
    have h5 : m_I (s_I σ 0 0) 5 = nI h := hC.2.2.2.2.1.2.2.1
    have h4 : h ≤ 4 := hC.2.2.2.2.1.2.2.2
    obtain ⟨l2, xs2, q21, q22, q23, -⟩ := hC.2.2.2.2.2.1.2.2
    have hscl := hC.2.2.2.1.2.2.1
    have hva : ¬ a = v := by
      intro q
      have q1 := hp.1.1.1.1
      rw [q, hp.1.1.2.1.1] at q1
      omega
    have hsv : ¬ sc = v := by
      intro q
      have q1 := hC.2.2.2.1.1
      rw [q, hp.1.1.2.1.1] at q1
      omega
    obtain ⟨was, hwas⟩ : ∃ was, was = m_A (s_I σ 0 0) 53 5 := ⟨_, rfl⟩
    obtain ⟨e, e', dc, ds, m1, m2, m3, m4, m5, m6, m7, m8, m9⟩ := la2_t (body := fun a1 : Int32 × Int32 × Int32 × GS => X1_best_b29 a what (gz g) a1.1 a1.2.1 a1.2.2.1 a1.2.2.2) (body' := fun a : Int32 × Int32 × Int32 × Int32 × Int32 × MS => X4_best_b37 what was a.1 a.2.1 a.2.2.1 a.2.2.2.1 a.2.2.2.2.1 a.2.2.2.2.2)
      (I := fun j a1 b c d => c = 0 ∧ d = 0 ∧ ∃ t, a1.2.2.1 = nI t ∧ b.2.2.2.2.1 = nI t ∧ t ≤ h ∧ j = h - t ∧ a1.1 = (if 2 ≤ what then b.2.2.1 else b.1) ∧ a1.2.1 = (if 2 ≤ what then b.2.2.2.1 else b.2.1) ∧ (b.1 = -1 ↔ t = 0) ∧ (b.2.2.1 = -1 ↔ t = 0) ∧ TW a1.2.2.2 ρ2 a sc v (gz g) (gz g + 1) (gz g1) (gz g1 + 1) (gz g1 + 2) 10 m n k h b.2.2.2.2.2 ∧ Fr (fun q => q = v) g a1.2.2.2 ∧ Mf [] [53, 57, 58, 61, 62, 63] (s_I σ 0 0) b.2.2.2.2.2 ∧ ∀ i, i ≠ 5 → m_A b.2.2.2.2.2 53 i = m_A (s_I σ 0 0) 53 i)
      (Q := fun e e' c d => c = 0 ∧ d = 0 ∧ e.1 = (if 2 ≤ what then e'.2.2.1 else e'.1) ∧ e.2.1 = (if 2 ≤ what then e'.2.2.2.1 else e'.2.1) ∧ Fr (fun q => q = v) g e.2.2 ∧ Mf [] [53, 57, 58, 61, 62, 63] (s_I σ 0 0) e'.2.2.2.2 ∧ ∀ i, i ≠ 5 → m_A e'.2.2.2.2 53 i = m_A (s_I σ 0 0) 53 i)
      (by
        rintro j ⟨b, bm, i1, g3⟩ ⟨c1, c2, c3, c4, i2, σ3⟩ c d ⟨c0, d0, t, e1, e2, t1, t2, e3, e4, u1, u2, e5, e6, e7, e8⟩
        simp only at e1 e2 e3 e4 u1 u2 e5 e6 e7 e8 ⊢
        subst c0 d0 e1 e2
        have ha3 : gK g3 a = 1 := e5.1.1.1
        have has : gR g3 a 0 = sc + 1 := e5.1.1.2.2.2.1
        have hks : gK g3 sc = 2 := e5.1.2.2.2.1.1
        have hl3 : gR g3 sc 2 = l2 + 1 := by rw [e6.R hscl hsv, q21]
        have hL3 : LiP g3 ρ 0 l2 xs2 := q22.to e6 Ag.rf (fun q _ k1 k2 => by rw [k2, hC.2.1.2.2.1] at k1; omega)
        unfold X1_best_b29 X4_best_b37
        rw [e_wk ha3, has, e_nn, e_wk hks, hl3, e_nn, e_wk hL3.K, J2_size_l hL3, e_ob, q23, e7.I (by decide), h5]
        by_cases ht : t < h
        · have hlt : ¬ nI h ≤ nI t := nI_ge ht (by omega)
          have hti : (nI t).toInt = (t : Int) := i_n (by omega)
          have hT2 := e5.px (f := 4) (f' := 5) (w := nI t) (by omega) (e5.2.2.2.2.2.2.put (by omega))
          obtain ⟨r, g4, σ4, f1, f2, f3, f4, f5, f6, f7, f8, f9⟩ := hT2.rs (T := T) (by rw [(Mf.sA (LI := []) (LA := [53]) (by decide)).Af (by decide), e7.Af (by decide)]; exact hs1) hT6
          have hx := f5.x
          have hwc := X11_worst_l f5.of
          have hwm := X4_mostOff_l f5.la
          obtain ⟨wo, hwo⟩ : ∃ wo, wo = it_ (wF (m_A σ4 63)) 0 (T + 1) := ⟨_, rfl⟩
          rw [← hwo] at hwc hwm
          have hF4 : Fr (fun q => q = v) g g4 := (e6.trans (Fr.pI (W := fun q => q = gz g + 1) rfl) (fun q hq k => by omega)).trans f6 (fun q hq k => by
            rcases k with k | k | k | k
            · exact k
            · omega
            · omega
            · omega)
          have hM4 : Mf [] [53, 57, 58, 61, 62, 63] (s_I σ 0 0) σ4 := (e7.trans (Mf.sA (LI := []) (LA := [53]) (by decide)) (fun _ k => k) (by decide)).trans f8 (fun _ k => k) (by decide)
          have hrow4 : ∀ i, i ≠ 5 → m_A σ4 53 i = m_A (s_I σ 0 0) 53 i := fun i hi => by rw [f8.A (by decide), rA_sA, if_neg (by rintro ⟨-, k⟩; exact hi k), e8 i hi]
          have htn : nI t ≠ -1 := by rw [Ne, i_eq, hti, k_n1]; omega
          have hT4 := f5.1
          -- the two next states agree
          have step : ∀ (q1 q2 : Int32) (p1 p2 p3 p4 : Int32), q1 = (if 2 ≤ what then p3 else p1) → q2 = (if 2 ≤ what then p4 else p2) → p1 ≠ -1 → p3 ≠ -1 →
              ∃ a' b'' dc dk m', m' < j ∧ (some (Sum.inl (q1, q2, nI t + 1, g4), 0, 0) : Option (((Int32 × Int32 × Int32 × GS) ⊕ (Int32 × Int32 × GS)) × Nat × Nat)) = some (.inl a', dc, dk) ∧ (some (Sum.inl (p1, p2, p3, p4, nI t + 1, σ4)) : Option ((Int32 × Int32 × Int32 × Int32 × Int32 × MS) ⊕ (Int32 × Int32 × Int32 × Int32 × MS))) = some (.inl b'') ∧ dc + 0 = 0 ∧ dk + 0 = 0 ∧ ∃ t, a'.2.2.1 = nI t ∧ b''.2.2.2.2.1 = nI t ∧ t ≤ h ∧ m' = h - t ∧ a'.1 = (if 2 ≤ what then b''.2.2.1 else b''.1) ∧ a'.2.1 = (if 2 ≤ what then b''.2.2.2.1 else b''.2.1) ∧ (b''.1 = -1 ↔ t = 0) ∧ (b''.2.2.1 = -1 ↔ t = 0) ∧ TW a'.2.2.2 ρ2 a sc v (gz g) (gz g + 1) (gz g1) (gz g1 + 1) (gz g1 + 2) 10 m n k h b''.2.2.2.2.2 ∧ Fr (fun q => q = v) g a'.2.2.2 ∧ Mf [] [53, 57, 58, 61, 62, 63] (s_I σ 0 0) b''.2.2.2.2.2 ∧ ∀ i, i ≠ 5 → m_A b''.2.2.2.2.2 53 i = m_A (s_I σ 0 0) 53 i :=
            fun q1 q2 p1 p2 p3 p4 k1 k2 k3 k4 => ⟨_, _, 0, 0, j - 1, by omega, rfl, rfl, rfl, rfl, t + 1, nI_1 t, nI_1 t, by omega, by omega, k1, k2, ⟨fun q => absurd q k3, fun q => by omega⟩, ⟨fun q => absurd q k4, fun q => by omega⟩, hT4, hF4, hM4, hrow4⟩
          -- what the model does
          obtain ⟨n1, n2, hn12⟩ : ∃ n1 n2, n1 = (if c1 = -1 then nI t else if r ≤ c2 then c1 else nI t) ∧ n2 = (if c1 = -1 then r else if r ≤ c2 then c2 else r) := ⟨_, _, rfl, rfl⟩
          obtain ⟨n3, n4, hn34⟩ : ∃ n3 n4, n3 = (if c3 = -1 then nI t else if c4 ≤ wo then c3 else nI t) ∧ n4 = (if c3 = -1 then wo else if c4 ≤ wo then c4 else wo) := ⟨_, _, rfl, rfl⟩
          have hj79 : X4_best_j79 what was n1 n2 c3 c4 (nI t) σ4 = some (Sum.inl (n1, n2, n3, n4, nI t + 1, σ4)) := by
            unfold X4_best_j79 X4_best_j94 X4_best_j104
            rw [hwm, e_ob, hn34.1, hn34.2]
            by_cases z1 : c3 = -1
            · rw [if_pos z1, if_pos z1, if_pos z1]
            · rw [if_neg z1, if_neg z1, if_neg z1, e_ob]
              by_cases z2 : c4 ≤ wo
              · rw [if_pos z2, if_pos z2, if_pos z2]
              · rw [if_neg z2, if_neg z2, if_neg z2]
          have hmod : (if c1 = -1 then X4_best_j72 what was c3 c4 (nI t) r σ4 else if r ≤ c2 then X4_best_j79 what was c1 c2 c3 c4 (nI t) σ4 else X4_best_j72 what was c3 c4 (nI t) r σ4) = some (Sum.inl (n1, n2, n3, n4, nI t + 1, σ4)) := by
            rw [← hj79, hn12.1, hn12.2]
            unfold X4_best_j72
            by_cases z1 : c1 = -1
            · rw [if_pos z1, if_pos z1, if_pos z1]
            · rw [if_neg z1, if_neg z1, if_neg z1]
              by_cases z2 : r ≤ c2
              · rw [if_pos z2, if_pos z2, if_pos z2]
              · rw [if_neg z2, if_neg z2, if_neg z2]
          have hn1 : n1 ≠ -1 := by
            rw [hn12.1]
            by_cases z1 : c1 = -1
            · rw [if_pos z1]; exact htn
            · rw [if_neg z1]
              split
              · exact z1
              · exact htn
          have hn3 : n3 ≠ -1 := by
            rw [hn34.1]
            by_cases z1 : c3 = -1
            · rw [if_pos z1]; exact htn
            · rw [if_neg z1]
              split
              · exact z1
              · exact htn
          rw [if_neg hlt, if_neg hlt, e_wk e5.2.1.1.1, e5.2.1.2.1.1, e_nn, e_wk e5.2.2.2.2.1.1, f1, e_cb, e_i5 (by omega) (by omega), cl_5, f4, e_cb, hmod]
          have hcomp : ∀ z, X1_best_j76 a what (gz g) b bm (nI t) z g4 = some (Sum.inl (if b = -1 then nI t else if 2 ≤ what then (if z < bm then nI t else b) else (if bm < z then nI t else b), if b = -1 then z else if 2 ≤ what then (if z < bm then z else bm) else (if bm < z then z else bm), nI t + 1, g4), 0, 0) := by
            intro z
            unfold X1_best_j76 X1_best_j108 X1_best_j115
            by_cases z1 : b = -1
            · rw [if_pos z1, if_pos z1, if_pos z1]
            · rw [if_neg z1, if_neg z1, if_neg z1]
              by_cases z2 : 2 ≤ what
              · rw [if_pos z2, if_pos z2, if_pos z2]
                split <;> rfl
              · rw [if_neg z2, if_neg z2, if_neg z2]
                split <;> rfl
          rw [e_wk hx.2.2.2.1, hwc, e_ob, e_wk hx.2.2.2.1, f2, e_ob, hcomp, hcomp]
          by_cases z2 : 2 ≤ what
          · rw [if_pos z2] at e3 e4
            rw [if_pos z2]
            refine Or.inl (step _ _ n1 n2 n3 n4 ?_ ?_ hn1 hn3)
            · rw [if_pos z2, hn34.1, e3, e4]
              by_cases z1 : c3 = -1
              · rw [if_pos z1, if_pos z1, if_pos z2]
              · rw [if_neg z1, if_neg z1, if_pos z2]
                by_cases z3 : c4 ≤ wo
                · rw [if_pos z3, if_neg (by rw [nlt_le]; exact z3)]
                · rw [if_neg z3, if_pos (nle_lt.mp z3)]
            · rw [if_pos z2, hn34.2, e3, e4]
              by_cases z1 : c3 = -1
              · rw [if_pos z1, if_pos z1, if_pos z2]
              · rw [if_neg z1, if_neg z1, if_pos z2]
                by_cases z3 : c4 ≤ wo
                · rw [if_pos z3, if_neg (by rw [nlt_le]; exact z3)]
                · rw [if_neg z3, if_pos (nle_lt.mp z3)]
          · rw [if_neg z2] at e3 e4
            rw [if_neg z2]
            refine Or.inl (step _ _ n1 n2 n3 n4 ?_ ?_ hn1 hn3)
            · rw [if_neg z2, hn12.1, e3, e4]
              by_cases z1 : c1 = -1
              · rw [if_pos z1, if_pos z1, if_neg z2]
              · rw [if_neg z1, if_neg z1, if_neg z2]
                by_cases z3 : r ≤ c2
                · rw [if_pos z3, if_neg (by rw [nlt_le]; exact z3)]
                · rw [if_neg z3, if_pos (nle_lt.mp z3)]
            · rw [if_neg z2, hn12.2, e3, e4]
              by_cases z1 : c1 = -1
              · rw [if_pos z1, if_pos z1, if_neg z2]
              · rw [if_neg z1, if_neg z1, if_neg z2]
                by_cases z3 : r ≤ c2
                · rw [if_pos z3, if_neg (by rw [nlt_le]; exact z3)]
                · rw [if_neg z3, if_pos (nle_lt.mp z3)]
        · have hlt : nI h ≤ nI t := nI_le (by omega) (by omega)
          rw [if_pos hlt, if_pos hlt]
          exact Or.inr ⟨_, _, 0, 0, rfl, rfl, rfl, rfl, e3, e4, e6, e7, e8⟩)
      fu_ h ((-1), (-1), 0, g2) ((-1), (-1), (-1), (-1), 0, s_I σ 0 0) 0 0 ⟨rfl, rfl, 0, rfl, rfl, Nat.zero_le _, rfl, by split <;> rfl, by split <;> rfl, ⟨fun _ => rfl, fun _ => rfl⟩, ⟨fun _ => rfl, fun _ => rfl⟩, a3, a5.mono (fun _ _ k => k.elim), Mf.rf, fun _ _ => rfl⟩ (by unfold fu_; omega)
    obtain ⟨e1, e2, e3⟩ := e
    obtain ⟨f1, f2, f3, f4, f5⟩ := e'
    simp only at m5 m6 m7 m8 m9
    obtain ⟨rfl⟩ : dc = 0 := by omega
    obtain ⟨rfl⟩ : ds = 0 := by omega
    have hav : ¬ a = gz g := by have := hp.1.1.1.2.2.1; omega
    have hyv : ¬ y = gz g := by have := hp.2.1.2.1.2.2.1; omega
    have hrel := hp0.q m7 a6 (meqA (f := 5) m8 m9 (by decide) (by decide))
    have hth : m_I (s_A f5 53 5 (m_A (s_I σ 0 0) 53 5)) 0 = 0 := by rw [rI_sA, m8.I (by decide)]; rfl
    rw [e_al, e_wk (by rw [K_nw, if_neg hav]; exact hp.1.1.1.1), R_nw, if_neg hav, hp.2.1.1, e_nn, e_wk (by rw [K_nw, if_neg hyv]; exact hp.2.1.2.1.1), a1, e_ca, a2, e_ca, m1, e_oa, bp_0, e_dv (by decide), e_i5 (by omega) (by omega), cl_5, ← hwas, m2, e_ob, e_i5 (by omega) (by omega), hwas]
    obtain ⟨w1, w2⟩ := wi_t.mp hw
    have hwhat : what = 0 ∨ what = 1 ∨ what = 2 ∨ what = 3 := by
      have k3 : ((3 : Int32)).toInt = 3 := by decide
      have k2 : ((2 : Int32)).toInt = 2 := by decide
      rw [k_0] at w1
      rw [k3] at w2
      rw [i_eq, i_eq, i_eq, i_eq, k_0, k_1, k2, k3]
      omega
    rcases hwhat with rfl | rfl | rfl | rfl
    · rw [if_neg (by decide)] at m5
      rw [if_pos (by decide), if_pos rfl, ← m5]
      exact OpT.ok (dc := 3 + dc1 + 1) (ds := 1803 + ds1 + 8) (by rw [e_b0, e_bp, e_bp]) rfl hrel (by omega) (by omega) hth
    · rw [if_neg (by decide)] at m6
      rw [if_neg (by decide), if_neg (by decide), if_pos rfl, ← m6]
      exact OpT.ok (dc := 3 + dc1 + 1) (ds := 1803 + ds1 + 8) (by rw [e_b0, e_bp, e_bp]) rfl hrel (by omega) (by omega) hth
    · rw [if_pos (by decide)] at m5
      rw [if_pos (by decide), if_neg (by decide), if_neg (by decide), if_pos rfl, ← m5]
      exact OpT.ok (dc := 3 + dc1 + 1) (ds := 1803 + ds1 + 8) (by rw [e_b0, e_bp, e_bp]) rfl hrel (by omega) (by omega) hth
    · rw [if_pos (by decide)] at m6
      rw [if_neg (by decide), if_neg (by decide), if_neg (by decide), if_neg (by decide), ← m6]
      exact OpT.ok (dc := 3 + dc1 + 1) (ds := 1803 + ds1 + 8) (by rw [e_b0, e_bp, e_bp]) rfl hrel (by omega) (by omega) hth
