/-! LAWS: holes, shots, light, depth, both, quickest (own work) -/
set_option maxRecDepth 100000
theorem MS.ext' {σ τ : MS} (h1 : ∀ k, m_I σ k = m_I τ k) (h2 : m_L σ = m_L τ) (h3 : ∀ j i, m_A σ j i = m_A τ j i) : σ = τ := by
  obtain ⟨a, b, c⟩ := σ
  obtain ⟨a', b', c'⟩ := τ
  have e1 : a = a' := funext h1
  have e2 : b = b' := h2
  have e3 : c = c' := funext fun j => funext fun i => h3 j i
  rw [e1, e2, e3]
theorem sA_sA {σ : MS} {j k : Nat} {v w : Int32} : s_A (s_A σ j k v) j k w = s_A σ j k w := by
  refine MS.ext' (fun _ => rfl) rfl (fun a i => ?_)
  rw [rA_sA, rA_sA, rA_sA]
  by_cases h : a = j ∧ i = k
  · rw [if_pos h, if_pos h]
  · rw [if_neg h, if_neg h, if_neg h]
theorem sA_id {σ : MS} {j k : Nat} {v : Int32} (h : v = m_A σ j k) : s_A σ j k v = σ := by
  refine MS.ext' (fun _ => rfl) rfl (fun a i => ?_)
  rw [rA_sA]
  by_cases q : a = j ∧ i = k
  · rw [if_pos q, q.1, q.2, h]
  · rw [if_neg q]
theorem sI_sI {σ : MS} {k : Nat} {v w : Int32} : s_I (s_I σ k v) k w = s_I σ k w := by
  refine MS.ext' (fun i => ?_) rfl (fun _ _ => rfl)
  rw [rI_sI, rI_sI, rI_sI]
  by_cases h : i = k
  · rw [if_pos h, if_pos h]
  · rw [if_neg h, if_neg h, if_neg h]
theorem sI_id {σ : MS} {k : Nat} {v : Int32} (h : v = m_I σ k) : s_I σ k v = σ := by
  refine MS.ext' (fun i => ?_) rfl (fun _ _ => rfl)
  rw [rI_sI]
  by_cases q : i = k
  · rw [if_pos q, q, h]
  · rw [if_neg q]
def fs_ (p : Nat → Bool) : Nat → Nat → Int32
  | 0, _ => -1
  | d + 1, v => if p v = true then nI v else fs_ p d (v + 1)
theorem LaP.sA {σ : MS} {n T k : Nat} {v : Int32} (h : LaP σ n T) : LaP (s_A σ 53 k v) n T := by
  have e : m_A (s_A σ 53 k v) 9 = m_A σ 9 := (Mf.sA (LI := []) (LA := [53]) (by decide)).Af (by decide)
  unfold LaP
  rw [e]
  exact h
theorem op_holes {a o : Nat} {g : GS} {σ : MS} (hr : Rel a o g σ) (x : Int32) : OpT [(2, 1)] a o (X1_holes a x g) (X4_holes x σ) := by
  obtain ⟨ρ, sc, v, n, k, h, y, m, T, hp⟩ := hr
  have hp0 := hp.m (s0_eq (c := 0))
  unfold X1_holes X4_holes
  rw [X1_in_l, X4_within_l, e_ob, e_ob]
  cases hw : wi_ x 0 601 with
  | false =>
    refine OpT.ex (e := 2) (q := gz g) (r := 0) (g' := g) (σ' := s_I (s_I σ 0 0) 0 1) (dc := 1) (ds := 6) rfl ?_ (hp0.r s0_eq) (by omega) (by omega) (List.mem_cons_self)
    show cb_ (X4_right 0 1 (s_I σ 0 0)) _ = _
    rw [X4_right0 s0_0 (by decide), e_cb, if_pos rfl]
  | true =>
    obtain ⟨g', σ', b1, b2, b3, b4, b5, b6⟩ := take_l hp0
    have hme : MEq (s_I σ 0 0) σ' := b6.eq (by decide) (by decide)
    have hth : m_I σ' 0 = 0 := by rw [b6.I (by decide)]; rfl
    have hrel := hp0.q b4 (nr_ag (r := 9)) hme
    have hof := b3.of
    have hla := b3.la
    have hu := b3.x.2.2.2.1
    obtain ⟨p, hpp⟩ : ∃ p : Nat → Bool, p = fun v => !decide (cnt_ (m_A σ' 63) (nI v) T < x) := ⟨_, rfl⟩
    have hcomp : ∀ d v f, v + d = 61 → d < f → la_ (fun a : Int32 × GS => X1_holes_b18 x (gz g) a.1 a.2) f (nI v, g') = some (if fs_ p d v = -1 then .inr g' else .inl (fs_ p d v, g'), 0, 0) := by
      intro d
      induction d with
      | zero =>
        intro v f hv hf
        obtain ⟨f', rfl⟩ : ∃ f', f = f' + 1 := ⟨f - 1, by omega⟩
        have hb : X1_holes_b18 x (gz g) (nI v) g' = some (.inr (.inr g'), 0, 0) := by
          unfold X1_holes_b18
          rw [if_pos]
          rw [i_lt, i_n (by omega)]
          show (60 : Int) < _
          omega
        rw [la_, hb]
        show _ = some (if (-1 : Int32) = -1 then Sum.inr g' else _, 0, 0)
        rw [if_pos rfl]
      | succ d ih =>
        intro v f hv hf
        obtain ⟨f', rfl⟩ : ∃ f', f = f' + 1 := ⟨f - 1, by omega⟩
        have hb : X1_holes_b18 x (gz g) (nI v) g' = if p v = true then some (.inr (.inl (nI v, g')), 0, 0) else some (.inl (nI (v + 1), g'), 0, 0) := by
          unfold X1_holes_b18
          rw [if_neg, e_wk hu, X11_sharp2_l hof, e_ob, hpp, nI_1]
          · by_cases q : cnt_ (m_A σ' 63) (nI v) T < x
            · simp [q]
            · simp [q]
          · rw [i_lt, i_n (by omega)]
            show ¬ (60 : Int) < _
            omega
        rw [la_, hb]
        unfold fs_
        by_cases q : p v = true
        · rw [if_pos q, if_pos q, if_neg (by rw [i_eq, i_n (by omega), k_n1]; omega)]
        · rw [if_neg q, if_neg q]
          show bp_ 0 0 _ = _
          rw [bp_0]
          exact ih (v + 1) f' (by omega) (by omega)
    obtain ⟨ve, hv1, hv2⟩ : ∃ e, lp_ (fun a : Int32 × Int32 × MS => X4_holes_b40 x (m_A σ' 53 0) a.1 a.2.1 a.2.2) fu_ ((-1), 60, σ') = some e ∧ (e.1 = fs_ p 60 1 ∧ ∃ c, e.2 = s_A σ' 53 0 c) := by
      refine lp_t (I := fun j a => ∃ v, a.2.1 = nI v ∧ v ≤ 60 ∧ j = v ∧ a.1 = fs_ p (60 - v) (v + 1) ∧ ∃ c, a.2.2 = s_A σ' 53 0 c) ?_ fu_ 60 _ ⟨60, rfl, Nat.le_refl _, rfl, rfl, m_A σ' 53 0, (sA_id rfl).symm⟩ (by unfold fu_; omega)
      rintro j ⟨b, i, σ1⟩ ⟨v, e1, e2, e3, e4, c, e5⟩
      simp only at e1 e4 e5 ⊢
      subst e1 e4 e5
      unfold X4_holes_b40 X4_holes_j67
      cases v with
      | zero => exact Or.inr ⟨_, by rw [if_pos (by decide)], rfl, c, rfl⟩
      | succ v =>
        rw [if_neg (nI_nle (by omega) (by omega)), e_i0 (by omega) (by omega), cl_0, sA_sA, X4_sharpMany_l hla.sA, e_ob]
        have e63 : m_A (s_A σ' 53 0 (nI (v + 1))) 63 = m_A σ' 63 := (Mf.sA (LI := []) (LA := [53]) (by decide)).Af (by decide)
        have e0 : m_A (s_A σ' 53 0 (nI (v + 1))) 53 0 = nI (v + 1) := by rw [rA_sA, if_pos ⟨rfl, rfl⟩]
        rw [e63, e0, nI_m1]
        have hd : 60 - v = (60 - (v + 1)) + 1 := by omega
        by_cases q : cnt_ (m_A σ' 63) (nI (v + 1)) T < x
        · rw [if_pos q]
          refine Or.inl ⟨_, v, by omega, rfl, v, rfl, by omega, rfl, ?_, nI (v + 1), rfl⟩
          show fs_ p (60 - (v + 1)) (v + 1 + 1) = fs_ p (60 - v) (v + 1)
          rw [hd, fs_, if_neg (by rw [hpp]; simp [q])]
        · rw [if_neg q]
          refine Or.inl ⟨_, v, by omega, rfl, v, rfl, by omega, rfl, ?_, nI (v + 1), rfl⟩
          show nI (v + 1) = fs_ p (60 - v) (v + 1)
          rw [hd, fs_, if_pos (by rw [hpp]; simp [q])]
    obtain ⟨hv2, c, hv3⟩ := hv2
    refine OpT.ok (r := fs_ p 60 1) (g' := g') (σ' := σ') (dc := 4) (ds := 1811) ?_ ?_ hrel (by omega) (by omega) hth
    · rw [if_pos rfl, X1_right_t, e_tcl, bp_0, e_wk hp.1.1.1.1, b1, e_ca, show (1 : Int32) = nI 1 from rfl, hcomp 60 1 fu_ rfl (by unfold fu_; omega), e_oa, bp_0]
      by_cases q : fs_ p 60 1 = -1
      · rw [if_pos q, q]; rfl
      · rw [if_neg q]; rfl
    · rw [if_pos rfl, X4_right1 s0_0, e_cb, if_neg nn01, b2, e_ob, e_i0 (by omega) (by omega), cl_0, hv1, e_ob, e_i0 (by omega) (by omega), hv2, hv3, sA_sA, sA_id rfl]
/-! shots -/
def stF (f : Nat → Int32) (hole x : Int32) : Nat → Int32 × Int32 → Int32 × Int32 := fun t c => (if (if sh_ hole (f t) = 0 then 0 else c.2 + 1) < x then c.1 else c.1 + 1, if sh_ hole (f t) = 0 then 0 else c.2 + 1)
theorem op_shots {a o : Nat} {g : GS} {σ : MS} (hr : Rel a o g σ) (x : Int32) : OpT [(2, 1)] a o (X1_shots a x g) (X4_shots x σ) := by
  obtain ⟨ρ, sc, v, n, k, h, y, m, T, hp⟩ := hr
  have hp0 := hp.m (s0_eq (c := 0))
  unfold X1_shots X4_shots
  rw [X1_in_l, X4_within_l, e_ob, e_ob]
  cases hw : wi_ x 1 601 with
  | false =>
    refine OpT.ex (e := 2) (q := gz g) (r := 0) (g' := g) (σ' := s_I (s_I σ 0 0) 0 1) (dc := 1) (ds := 6) rfl ?_ (hp0.r s0_eq) (by omega) (by omega) (List.mem_cons_self)
    show cb_ (X4_right 0 1 (s_I σ 0 0)) _ = _
    rw [X4_right0 s0_0 (by decide), e_cb, if_pos rfl]
  | true =>
    obtain ⟨g', σ', b1, b2, b3, b4, b5, b6⟩ := take_l hp0
    have hme : MEq (s_I σ 0 0) σ' := b6.eq (by decide) (by decide)
    have hth : m_I σ' 0 = 0 := by rw [b6.I (by decide)]; rfl
    have hrel := hp0.q b4 (nr_ag (r := 9)) hme
    have hof := b3.of
    have hla := b3.la
    have hx := b3.x
    have hT := hla.2.2.2
    have hu := hx.2.2.2.1
    have hC := b3.1.1
    have hs5 : gI g' sc 6 = nI T := by rw [hC.2.2.2.1.2.2.2.2, b3.2.2.1]
    obtain ⟨k1, -⟩ := fora_l (enc := fun (c : Int32 × Int32) t => (c.1, c.2, nI t, g')) (fun a1 : Int32 × Int32 × Int32 × GS => X1_shots_b24 a x (gz g) a1.1 a1.2.1 a1.2.2.1 a1.2.2.2) T (stF (m_A σ' 63) (m_A σ' 53 0) x) (fun c => (c.1, g')) (fun _ _ => True) (fun _ _ _ _ => trivial)
      (fun t c ht _ => by
        show X1_shots_b24 a x (gz g) c.1 c.2 (nI t) g' = some (Sum.inl ((stF (m_A σ' 63) (m_A σ' 53 0) x t c).1, (stF (m_A σ' 63) (m_A σ' 53 0) x t c).2, nI (t + 1), g'), 0, 0)
        unfold X1_shots_b24 X1_shots_j53 X1_shots_j64 stF
        rw [e_wk hC.1.1, hC.1.2.2.2.1, e_nn, e_wk hC.2.2.2.1.1, hs5, if_neg (nI_nlt ht (by omega)), e_wk hu, X11_isSharp2_l hof hx.1 hx.2.1 ht, e_ob, hx.2.2.1, nI_1]
        rcases sh_01 (hole := m_A σ' 53 0) (v := m_A σ' 63 t) with q | q
        · rw [q, if_pos rfl, if_pos rfl]
          split <;> rfl
        · rw [q, if_neg nn01, if_neg nn01]
          split <;> rfl)
      (fun c _ => by
        show X1_shots_b24 a x (gz g) c.1 c.2 (nI (T + 1)) g' = _
        unfold X1_shots_b24
        rw [e_wk hC.1.1, hC.1.2.2.2.1, e_nn, e_wk hC.2.2.2.1.1, hs5, if_pos (nI_lt (by omega) (by omega))]) (0, 0) trivial (n := fu_) (by unfold fu_; omega)
    obtain ⟨k2, -⟩ := for_l (enc := fun (c : Int32 × Int32) t => (c.1, c.2, nI t)) (fun a : Int32 × Int32 × Int32 => X4_shots_b34 x σ' a.1 a.2.1 a.2.2) T (stF (m_A σ' 63) (m_A σ' 53 0) x) (fun c => c.1) (fun _ _ => True) (fun _ _ _ _ => trivial)
      (fun t c ht _ => by
        show X4_shots_b34 x σ' c.1 c.2 (nI t) = some (Sum.inl ((stF (m_A σ' 63) (m_A σ' 53 0) x t c).1, (stF (m_A σ' 63) (m_A σ' 53 0) x t c).2, nI (t + 1)))
        unfold X4_shots_b34 X4_shots_j59 X4_shots_j71 stF
        rw [hla.l, e_ob, if_neg (nI_nlt ht (by omega)), X4_isSharp_l (by omega), e_ob, nI_1]
        rcases sh_01 (hole := m_A σ' 53 0) (v := m_A σ' 63 t) with q | q
        · rw [q, if_pos rfl, if_pos rfl]
          split
          · rw [Int32.add_zero]
          · rfl
        · rw [q, if_neg nn01, if_neg nn01]
          split
          · rw [Int32.add_zero]
          · rfl)
      (fun c _ => by
        show X4_shots_b34 x σ' c.1 c.2 (nI (T + 1)) = _
        unfold X4_shots_b34
        rw [hla.l, e_ob, if_pos (nI_lt (by omega) (by omega))]) (0, 0) trivial (n := fu_) (by unfold fu_; omega)
    refine OpT.ok (r := (it_ (stF (m_A σ' 63) (m_A σ' 53 0) x) (0, 0) (T + 1)).1) (g' := g') (σ' := σ') (dc := 4) (ds := 1811) ?_ ?_ hrel (by omega) (by omega) hth
    · rw [if_pos rfl, X1_right_t, e_tcl, bp_0, e_wk hp.1.1.1.1, b1, e_ca, show (la_ (fun a1 : Int32 × Int32 × Int32 × GS => X1_shots_b24 a x (gz g) a1.1 a1.2.1 a1.2.2.1 a1.2.2.2) fu_ (0, 0, 0, g')) = _ from k1, e_oa, bp_0]
      rfl
    · rw [if_pos rfl, X4_right1 s0_0, e_cb, if_neg nn01, b2, e_ob, show (lp_ (fun a : Int32 × Int32 × Int32 => X4_shots_b34 x σ' a.1 a.2.1 a.2.2) fu_ (0, 0, 0)) = _ from k2, e_ob]
/-! depth -/
theorem op_depth {a o : Nat} {g : GS} {σ : MS} (hr : Rel a o g σ) (ring what : Int32) : OpT [(1, 1), (2, 2)] a o (X1_depth a ring what g) (X4_depth ring what σ) := by
  obtain ⟨ρ, sc, v, n, k, h, y, m, T, hp⟩ := hr
  have hp0 := hp.m (s0_eq (c := 0))
  unfold X1_depth X4_depth
  cases hw : wi_ what 0 1 with
  | false =>
    refine OpT.ex (e := 1) (q := gz g) (r := 0) (g' := g) (σ' := s_I (s_I σ 0 0) 0 1) (dc := 1) (ds := 6) ?_ ?_ (hp0.r s0_eq) (by omega) (by omega) (List.mem_cons_self)
    · rw [X1_oneOf_f hw, e_tcr, e_b0]
    · rw [X4_isWhat_f s0_0 hw, e_cb, if_pos rfl]
  | true =>
    rw [X1_oneOf_t hw, e_tcl, bp_0, X4_isWhat_t s0_0 hw, e_cb, if_neg nn01, X1_in_l, X4_within_l, e_ob, e_ob]
    cases hw2 : wi_ ring 0 999 with
    | false =>
      refine OpT.ex (e := 2) (q := gz g) (r := 0) (g' := g) (σ' := s_I (s_I σ 0 0) 0 2) (dc := 1) (ds := 6) rfl ?_ (hp0.r s0_eq) (by omega) (by omega) (List.mem_cons_of_mem _ List.mem_cons_self)
      show cb_ (X4_right 0 2 (s_I σ 0 0)) _ = _
      rw [X4_right0 s0_0 (by decide), e_cb, if_pos rfl]
    | true =>
      obtain ⟨r1, r2⟩ := wi_t.mp hw2
      rw [k_0] at r1
      rw [k_999] at r2
      obtain ⟨e, e', dc, ds, m1, m2, m3, m4, m5, m6, m7⟩ := la2_t (body := fun a1 : Int32 × Int32 × GS => X1_depth_b22 a ring what a1.1 a1.2.1 a1.2.2) (body' := fun a : Int32 × Int32 × Int32 × MS => X4_depth_b41 ring what a.1 a.2.1 a.2.2.1 a.2.2.2)
        (I := fun j a b c d => c = 0 ∧ d = 0 ∧ ∃ t, a.2.1 = nI t ∧ b.2.2.1 = nI t ∧ 12 ≤ t ∧ t ≤ 481 ∧ j = 481 - t ∧ a.1 = (if what = 0 then b.1 else b.2.1) ∧ (b.1 = -1 ↔ b.2.1 = -1) ∧ Fr (fun q => q = v) g a.2.2 ∧ Mf [] [57, 58] (s_I σ 0 0) b.2.2.2)
        (Q := fun e e' c d => c = 0 ∧ d = 0 ∧ e.1 = (if what = 0 then e'.1 else e'.2.1) ∧ Fr (fun q => q = v) g e.2 ∧ Mf [] [57, 58] (s_I σ 0 0) e'.2.2)
        (by
          rintro j ⟨b, i1, g1⟩ ⟨l1, l2, i2, σ1⟩ c d ⟨c0, d0, t, e1, e2, t1, t2, t3, e3, e4, e5, e6⟩
          simp only at e1 e2 e3 e4 e5 e6 ⊢
          subst c0 d0 e1 e2
          have hva : ¬ a = v := by
            intro q
            have q1 := hp.1.1.1.1
            rw [q, hp.1.1.2.1.1] at q1
            omega
          have hC1 := hp0.1.1.to e5 (Ag.rf) (fun q _ q1 q2 => by rw [q2, hp.1.1.2.1.2.2.1] at q1; omega) ⟨e5.R hp.1.1.1.2.2.1 hva 0, e5.R hp.1.1.1.2.2.1 hva 2⟩ e6 (by decide) (by decide)
          unfold X1_depth_b22 X4_depth_b41
          by_cases ht : t ≤ 480
          · have hti : (nI t).toInt = (t : Int) := i_n (by omega)
            have hlt : ¬ (480 : Int32) < nI t := by rw [i_lt, hti]; show ¬ (480 : Int) < _; omega
            obtain ⟨r, g2, σ2, f1, f2, f3, f4, f5, f6⟩ := turn_l hC1 (x := nI t) (by omega)
            have hN := hp0.2.1
            have hF2 : Fr (fun q => q = v) g g2 := e5.trans f3 (fun _ _ k => k)
            have ha2 : gK g2 a = 1 := by rw [hF2.K hp.1.1.1.2.2.1, hp.1.1.1.1]
            have hR2 : gR g2 a 1 = y + 1 := by rw [hF2.R hp.1.1.1.2.2.1 hva, hN.1]
            have hM2 := e6.trans f5 (fun _ k => k) (fun _ k => k)
            have hS2 : SetP g2 ρ 2 y m (m_A (s_I σ 0 0) 53) := hN.2.1.to hF2 Ag.rf (fun q _ q1 q2 => by rw [q2, hp.1.1.2.1.2.2.1] at q1; omega)
            have e53 : m_A σ2 53 0 = m_A (s_I σ 0 0) 53 0 := hM2.A (by decide) 0
            rw [if_neg hlt, e_wk hC1.1.1, f1, e_cb, e_wk ha2, hR2, e_nn, e_wk hS2.1, hS2.2.2.2.1.1]
            rw [if_neg hlt, f2, e_cb, (off_l (x := r) (y := ring) (by omega) (by omega)).1, e_ob, e_i0 (by omega) (by omega), cl_0, e53]
            have hst : ∀ (b' l1' l2' : Int32), b' = (if what = 0 then l1' else l2') → (l1' = -1 ↔ l2' = -1) → (∃ a' b'' dc dk m', m' < j ∧ (some (Sum.inl (b', nI t + 1, g2), 0, 0) : Option (((Int32 × Int32 × GS) ⊕ (Int32 × GS)) × Nat × Nat)) = some (.inl a', dc, dk) ∧ (some (Sum.inl (l1', l2', nI t + 1, σ2)) : Option ((Int32 × Int32 × Int32 × MS) ⊕ (Int32 × Int32 × MS))) = some (.inl b'') ∧ dc + 0 = 0 ∧ dk + 0 = 0 ∧ ∃ t, a'.2.1 = nI t ∧ b''.2.2.1 = nI t ∧ 12 ≤ t ∧ t ≤ 481 ∧ m' = 481 - t ∧ a'.1 = (if what = 0 then b''.1 else b''.2.1) ∧ (b''.1 = -1 ↔ b''.2.1 = -1) ∧ Fr (fun q => q = v) g a'.2.2 ∧ Mf [] [57, 58] (s_I σ 0 0) b''.2.2.2) :=
              fun b' l1' l2' q1 q2 => ⟨_, _, 0, 0, j - 1, by omega, rfl, rfl, rfl, rfl, t + 1, nI_1 t, nI_1 t, by omega, by omega, by omega, q1, q2, hF2, hM2⟩
            have htn : nI t ≠ -1 := by rw [Ne, i_eq, hti, k_n1]; omega
            by_cases hc : jabs_ (r - ring) ≤ m_A (s_I σ 0 0) 53 0
            · rw [if_neg (by rw [nlt_le]; exact hc), if_pos hc]
              by_cases hl : l1 = -1
              · rw [if_pos hl]
                by_cases hwh : what = 0
                · rw [if_pos hwh, if_pos (by rw [e3, if_pos hwh, hl])]
                  exact Or.inl (hst _ _ _ (by rw [if_pos hwh]) ⟨fun q => absurd q htn, fun q => absurd q htn⟩)
                · rw [if_neg hwh]
                  exact Or.inl (hst _ _ _ (by rw [if_neg hwh]) ⟨fun q => absurd q htn, fun q => absurd q htn⟩)
              · rw [if_neg hl]
                by_cases hwh : what = 0
                · rw [if_pos hwh, if_neg (by rw [e3, if_pos hwh]; exact hl)]
                  exact Or.inl (hst _ _ _ (by rw [e3, if_pos hwh, if_pos hwh]) ⟨fun q => absurd q hl, fun q => absurd q htn⟩)
                · rw [if_neg hwh]
                  exact Or.inl (hst _ _ _ (by rw [if_neg hwh]) ⟨fun q => absurd q hl, fun q => absurd q htn⟩)
            · rw [if_pos (nle_lt.mp hc), if_neg hc]
              exact Or.inl (hst _ _ _ e3 e4)
          · have hti : (nI t).toInt = (t : Int) := i_n (by omega)
            have hlt : (480 : Int32) < nI t := by rw [i_lt, hti]; show (480 : Int) < _; omega
            rw [if_pos hlt, if_pos hlt]
            exact Or.inr ⟨_, _, 0, 0, rfl, rfl, rfl, rfl, e3, e5, e6⟩)
        fu_ 469 ((-1), 12, g) ((-1), (-1), 12, s_I σ 0 0) 0 0 ⟨rfl, rfl, 12, rfl, rfl, Nat.le_refl _, by omega, rfl, by split <;> rfl, Iff.rfl, Fr.rf, Mf.rf⟩ (by unfold fu_; omega)
      obtain ⟨e1, e2⟩ := e
      obtain ⟨f1, f2, f3⟩ := e'
      simp only at m5 m6 m7
      obtain ⟨rfl⟩ : dc = 0 := by omega
      obtain ⟨rfl⟩ : ds = 0 := by omega
      have hme := m7.eq (by decide) (by decide)
      refine OpT.ok (r := e1) (g' := e2) (σ' := f3) (dc := 0) (ds := 0) ?_ ?_ (hp0.q m6 Ag.rf hme) (by omega) (by omega) (by rw [m7.I (by decide)]; rfl)
      · rw [if_pos rfl, X1_right_t, e_tcl, bp_0, m1, e_oa, bp_0]
      · rw [if_pos rfl, X4_right1 s0_0, e_cb, if_neg nn01, m2, e_ob, m5]
        by_cases hwh : what = 0
        · rw [if_pos hwh, if_pos hwh]
        · rw [if_neg hwh, if_neg hwh]
