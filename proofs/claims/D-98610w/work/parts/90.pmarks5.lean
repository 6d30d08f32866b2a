/-! LAWS: marks: all choices (own work) -/
set_option maxRecDepth 100000
theorem la_step {α ε : Type} {body : α → Option ((α ⊕ ε) × Nat × Nat)} {a b : α} {c d : Nat} (h : body a = some (.inl b, c, d)) (n : Nat) : la_ body (n + 1) a = bp_ c d (la_ body n b) := by
  rw [la_, h]
def gc_ : Nat → Nat
  | 0 => 2
  | l + 1 => 13 * (1 + gc_ l)
def gs_ : Nat → Nat
  | 0 => 6
  | l + 1 => 13 * (16 + gs_ l)
theorem eraseLast {xs : List Nat} {x : Nat} : (xs ++ [x]).eraseIdx xs.length = xs := by
  induction xs with
  | nil => rfl
  | cons y ys ih => simp [ih]
theorem go_l {a sc v n kk h T u x sa ra oa lm P k c9 : Nat} {ps : List Nat} {mo : Int32} (hk : k ≤ 3) (hps : ps.length ≤ 13) : ∀ l j nf, j + l = k → l < nf → ∀ (fr : Nat) (N : Nat → Nat) (zs : List Nat) (g : GS) (ρ : Nat → Nat) (b : Int32) (σ : MS), fr + l ≤ ps.length → GC g ρ a sc v n kk h T u x sa ra oa lm P ps k σ → GK g ρ c9 P u k b σ → LiP g ρ 10 lm zs → zs.length = j → (∀ i y, zs[i]? = some y → ps[N i]? = some y) → (∀ i, i < j → m_A σ 72 i = nI (N i)) → (∀ i, i < j → N i + (k - i) ≤ ps.length) → (∀ t, t < l → m_A σ 72 (j + t) = nI (fr + t)) →
    ∃ g' ρ' dc ds σ' b' fl i, X12_go_r nf c9 (nI fr) (nI l) g = some (((), g'), dc, ds) ∧ LS_ (fun a : Int32 × Int32 × MS => X4_marks_b117 (nI k) mo a.1 a.2.1 a.2.2) i (b, 1, σ) (b', fl, σ') ∧ i ≤ 13 ^ l ∧ GC g' ρ' a sc v n kk h T u x sa ra oa lm P ps k σ' ∧ GK g' ρ' c9 P u k b' σ' ∧ LiP g' ρ' 10 lm zs ∧ Fr (fun q => ρ q = 6 ∨ 9 ≤ ρ q) g g' ∧ Ag g ρ ρ' ∧ Mf [] [53, 57, 58, 61, 62, 63, 70, 72] σ σ' ∧ NxP k ps.length N j fl (m_A σ' 72) ∧ (fl = 0 ∨ fl = 1) ∧ 0 ≤ b'.toInt ∧ dc ≤ gc_ l ∧ ds ≤ gs_ l := by
  intro l
  induction l with
  | zero =>
    intro j nf hj hnf fr N zs g ρ b σ hfr hG hK hL hz hzs hN hNc hT
    obtain rfl : j = k := by omega
    obtain ⟨f, rfl⟩ : ∃ f, nf = f + 1 := ⟨nf - 1, by omega⟩
    obtain ⟨g', ρ', dc, ds, σ', b', fl, r1, r2, r3, r4, r5, r6, r7, r8, r9, r10, r11, r12, r13⟩ := leaf_l (mo := mo) (fr := nI fr) (X12_go_r f) hG hK hL hz hk hps hzs hN hNc
    exact ⟨g', ρ', dc, ds, σ', b', fl, 1, r1, LS_.one r2, by omega, r3, r4, r5, r6, r7, r8, r9, r10, r11, r12, r13⟩
  | succ l ihl =>
    intro j nf hj hnf fr N zs g ρ b σ hfr hG hK hL hz hzs hN hNc hT
    obtain ⟨nf', rfl⟩ : ∃ f, nf = f + 1 := ⟨nf - 1, by omega⟩
    have step : ∀ i, i + (l + 1) ≤ ps.length → ∀ (g : GS) (ρ : Nat → Nat) (b : Int32) (σ : MS), GC g ρ a sc v n kk h T u x sa ra oa lm P ps k σ → GK g ρ c9 P u k b σ → LiP g ρ 10 lm zs → (∀ i, i < j → m_A σ 72 i = nI (N i)) → (∀ t, t < l + 1 → m_A σ 72 (j + t) = nI (i + t)) →
        ∃ g' ρ' dc ds σ' b' fl s, X12_go_b53 (X12_go_r nf') c9 (nI (l + 1)) (nI i) g = some (.inl (nI (i + 1), g'), dc, ds) ∧ LS_ (fun a : Int32 × Int32 × MS => X4_marks_b117 (nI k) mo a.1 a.2.1 a.2.2) s (b, 1, σ) (b', fl, σ') ∧ s ≤ 13 ^ l ∧ GC g' ρ' a sc v n kk h T u x sa ra oa lm P ps k σ' ∧ GK g' ρ' c9 P u k b' σ' ∧ LiP g' ρ' 10 lm zs ∧ Fr (fun q => ρ q = 6 ∨ 9 ≤ ρ q) g g' ∧ Ag g ρ ρ' ∧ Mf [] [53, 57, 58, 61, 62, 63, 70, 72] σ σ' ∧ NxP k ps.length (fun q => if q = j then i else N q) (j + 1) fl (m_A σ' 72) ∧ (fl = 0 ∨ fl = 1) ∧ 0 ≤ b'.toInt ∧ dc ≤ 1 + gc_ l ∧ ds ≤ 16 + gs_ l := by
      intro i hi g ρ b σ hG hK hL hN hT
      obtain ⟨hC, hTk, hTn, ⟨x1, x2, x3, x4, x5⟩, hs, h4, hR, hP, hE⟩ := id hG
      obtain ⟨⟨c1, c2, c3, c4, c5, c6⟩, hb⟩ := id hK
      obtain ⟨y, hy⟩ := get_ex (xs := ps) (k := i) (by omega)
      obtain ⟨q1, q2, q3, q4⟩ := hP.2.1 i y hy
      obtain ⟨e, he⟩ := hL
      obtain ⟨g1, e', dc1, ds1, d1, d2, d3, d4, d5, d6, d7, d8, d9⟩ := J2_add_l he (x := y) (by obtain ⟨⟨d, hd, -⟩, -⟩ := hE.1; exact ⟨d, hd⟩) (by omega) q3 (by rw [q1]; rfl)
      have hW1 : ∀ q, q < gz g → (q = lm ∨ (q = e ∧ gK g e = 103)) → ρ q = 10 ∧ ¬ q = u ∧ ¬ q = x := fun q _ k => by
        have hr : ρ q = 10 := by
          rcases k with k | ⟨k, k2⟩
          · rw [k]; exact he.2.1
          · rw [k]
            rcases he.2.2.2.2.2.2.1 with ⟨-, q2⟩ | ⟨q2, -⟩
            · exact q2
            · rw [q2] at k2; cases k2
        refine ⟨hr, fun e2 => ?_, fun e2 => ?_⟩
        · have := hTk.1.2.1
          rw [← e2, hr] at this
          cases this
        · rcases k with k | ⟨k, k2⟩
          · have := he.1
            rw [← k, e2, x1] at this
            cases this
          · rw [← k, e2, x1] at k2
            cases k2
      have hG1 : GC g1 (nr ρ g 10) a sc v n kk h T u x sa ra oa lm P ps k σ := hG.to d3 nr_ag (fun q hq k => by
        obtain ⟨w1, w2, w3⟩ := hW1 q hq k
        exact ⟨by rw [w1]; decide, w2, w3, by rw [w1]; decide⟩) Mf.rf
      have hK1 : GK g1 (nr ρ g 10) c9 P u k b σ := hK.to d3 nr_ag (fun q hq k => by
        obtain ⟨w1, -, -⟩ := hW1 q hq k
        exact ⟨by rw [w1]; decide, by rw [w1]; decide⟩) rfl
      have F1 : Fr (fun q => ρ q = 6 ∨ 9 ≤ ρ q) g g1 := d3.mono (fun q hq k => Or.inr (by rw [(hW1 q hq k).1]; decide))
      obtain ⟨g2, ρ2, dc2, ds2, σ2, b2, fl, s, r1, r2, r3, r4, r5, r6, r7, r8, r9, r10, r11, r12, r13, r14⟩ := ihl (j + 1) nf' (by omega) (by omega) (i + 1) (fun q => if q = j then i else N q) (zs ++ [y]) g1 (nr ρ g 10) b σ (by omega) hG1 hK1 ⟨e', d2⟩ (by rw [len_snoc, hz]) (fun i' y' hy' => by
        rcases get_snoc hy' with ⟨p1, p2⟩ | ⟨p1, p2⟩
        · rw [if_neg (by omega)]; exact hzs i' y' p2
        · rw [if_pos (by omega), p2]; exact hy) (fun i' hi' => by
        by_cases e1 : i' = j
        · rw [if_pos e1, e1]; exact hT 0 (Nat.succ_pos _)
        · rw [if_neg e1]; exact hN i' (by omega)) (fun i' hi' => by
        by_cases e1 : i' = j
        · rw [if_pos e1]; omega
        · rw [if_neg e1]; exact hNc i' (by omega)) (fun t ht => by
        have := hT (t + 1) (by omega)
        rw [show j + 1 + t = j + (t + 1) by omega, this, show i + (t + 1) = i + 1 + t by omega])
      obtain ⟨hC2, hTk2, -, ⟨x21, x22, x23, x24, x25⟩, -⟩ := id r4
      obtain ⟨⟨c21, c22, c23, c24, c25, c26⟩, -⟩ := id r5
      obtain ⟨e2, he2⟩ := r6
      have hyj : (zs ++ [y])[j]? = some y := by rw [← hz]; exact get_snoc'
      obtain ⟨g3, t1, t2, t3, t4, t5, t6⟩ := J2_remove_l he2 hyj
      have her : (zs ++ [y]).eraseIdx j = zs := by rw [← hz]; exact eraseLast
      rw [her] at t2
      have hW3 : ∀ q, q < gz g2 → (q = lm ∨ q = e2) → ρ2 q = 10 ∧ ¬ q = u ∧ ¬ q = x := fun q _ k => by
        have hr : ρ2 q = 10 := by
          rcases k with k | k
          · rw [k]; exact he2.2.1
          · rw [k]; exact t5
        refine ⟨hr, fun e3 => ?_, fun e3 => ?_⟩
        · have := hTk2.1.2.1
          rw [← e3, hr] at this
          cases this
        · rcases k with k | k
          · have := he2.1
            rw [← k, e3, x21] at this
            cases this
          · rw [← k, e3, x21] at t4
            cases t4
      have hG3 : GC g3 ρ2 a sc v n kk h T u x sa ra oa lm P ps k σ2 := r4.to t3 Ag.rf (fun q hq k => by
        obtain ⟨w1, w2, w3⟩ := hW3 q hq k
        exact ⟨by rw [w1]; decide, w2, w3, by rw [w1]; decide⟩) Mf.rf
      have hK3 : GK g3 ρ2 c9 P u k b2 σ2 := r5.to t3 Ag.rf (fun q hq k => by
        obtain ⟨w1, -, -⟩ := hW3 q hq k
        exact ⟨by rw [w1]; decide, by rw [w1]; decide⟩) rfl
      have hA1 : Ag g ρ (nr ρ g 10) := nr_ag
      have F2 : Fr (fun q => ρ q = 6 ∨ 9 ≤ ρ q) g g2 := F1.trans r7 (fun q hq k => by rw [hA1 q hq] at k; exact k)
      have hA2 : Ag g ρ ρ2 := hA1.trans r8 F1.z
      have F3 : Fr (fun q => ρ q = 6 ∨ 9 ≤ ρ q) g g3 := F2.trans t3 (fun q hq k => by
        have := (hW3 q (F2.lt hq) k).1
        rw [hA2 q hq] at this
        exact Or.inr (by rw [this]; decide))
      have hlz : zs.length ≤ 2 := by omega
      refine ⟨g3, ρ2, 0 + dc2 + dc1, 0 + ds2 + ds1, σ2, b2, fl, s, ?_, r2, r3, hG3, hK3, ⟨e2, t2⟩, F3, hA2, r9, r10, r11, r12, by omega, by omega⟩
      unfold X12_go_b53
      rw [e_wk c1, c4, e_nn, e_wk hP.1.K, J2_size_l hP.1, e_ob, nI_add, if_neg (nI_nlt hi (by omega)), c5, e_nn, e_wk hTk.1.1, hTk.2.1.1, e_nn, e_wk x1, x5, e_nn, e_nn, e_wk hP.1.K, J2_get_l hP.1 hy, e_ob, e_rk q1, e_wk he.1, d1, e_ca, e_wk hK1.1.1, nI_1, nI_p, r1, e_ca, e_wk c21, c25, e_nn, e_wk hTk2.1.1, hTk2.2.1.1, e_nn, e_wk x21, x25, e_nn, e_nn, e_wk hTk2.1.1, hTk2.2.1.1, e_nn, e_wk x21, x25, e_nn, e_wk he2.1, J2_size_l ⟨e2, he2⟩, e_ob, len_snoc, hz, nI_p, e_wk he2.1, t1, e_cb, e_bp, e_bp]
    have inner : ∀ d i, i + (l + 1) + d = ps.length → ∀ (g : GS) (ρ : Nat → Nat) (b : Int32) (σ : MS), GC g ρ a sc v n kk h T u x sa ra oa lm P ps k σ → GK g ρ c9 P u k b σ → LiP g ρ 10 lm zs → (∀ i, i < j → m_A σ 72 i = nI (N i)) → (∀ t, t < l + 1 → m_A σ 72 (j + t) = nI (i + t)) → ∀ f, d + 1 < f →
        ∃ g' ρ' dc ds σ' b' fl s, la_ (fun a : Int32 × GS => X12_go_b53 (X12_go_r nf') c9 (nI (l + 1)) a.1 a.2) f (nI i, g) = some (g', dc, ds) ∧ LS_ (fun a : Int32 × Int32 × MS => X4_marks_b117 (nI k) mo a.1 a.2.1 a.2.2) s (b, 1, σ) (b', fl, σ') ∧ s ≤ (d + 1) * 13 ^ l ∧ GC g' ρ' a sc v n kk h T u x sa ra oa lm P ps k σ' ∧ GK g' ρ' c9 P u k b' σ' ∧ LiP g' ρ' 10 lm zs ∧ Fr (fun q => ρ q = 6 ∨ 9 ≤ ρ q) g g' ∧ Ag g ρ ρ' ∧ Mf [] [53, 57, 58, 61, 62, 63, 70, 72] σ σ' ∧ NxP k ps.length N j fl (m_A σ' 72) ∧ (fl = 0 ∨ fl = 1) ∧ 0 ≤ b'.toInt ∧ dc ≤ (d + 1) * (1 + gc_ l) ∧ ds ≤ (d + 1) * (16 + gs_ l) := by
      intro d
      induction d with
      | zero =>
        intro i hi g ρ b σ hG hK hL hN hT f hf
        obtain ⟨f', rfl⟩ : ∃ f', f = f' + 1 + 1 := ⟨f - 2, by omega⟩
        obtain ⟨g', ρ', dc, ds, σ', b', fl, s, r1, r2, r3, r4, r5, r6, r7, r8, r9, r10, r11, r12, r13, r14⟩ := step i (by omega) g ρ b σ hG hK hL hN hT
        unfold NxP at r10
        rw [if_pos rfl, if_neg (by omega)] at r10
        have hend : X12_go_b53 (X12_go_r nf') c9 (nI (l + 1)) (nI (i + 1)) g' = some (.inr g', 0, 0) := by
          obtain ⟨-, -, -, -, -, -, -, hP, -⟩ := r4
          unfold X12_go_b53
          rw [e_wk r5.1.1, r5.1.2.2.2.1, e_nn, e_wk hP.1.K, J2_size_l hP.1, e_ob, nI_add, if_pos (nI_lt (by omega) (by omega))]
        refine ⟨g', ρ', 0 + dc, 0 + ds, σ', b', fl, s, ?_, r2, by omega, r4, r5, r6, r7, r8, r9, NxP.congr j (fun q hq => by rw [if_neg (by omega)]) r10, r11, r12, by omega, by omega⟩
        rw [la_step (b := (nI (i + 1), g')) r1, la_end (e := g') hend, e_bp]
      | succ d ihd =>
        intro i hi g ρ b σ hG hK hL hN hT f hf
        obtain ⟨f', rfl⟩ : ∃ f', f = f' + 1 := ⟨f - 1, by omega⟩
        obtain ⟨g1, ρ1, dc1, ds1, σ1, b1, fl1, s1, r1, r2, r3, r4, r5, r6, r7, r8, r9, r10, r11, r12, r13, r14⟩ := step i (by omega) g ρ b σ hG hK hL hN hT
        unfold NxP at r10
        rw [if_pos rfl, if_pos (by omega)] at r10
        obtain ⟨rfl, n1, n2⟩ := r10
        obtain ⟨g2, ρ2, dc2, ds2, σ2, b2, fl2, s2, t1, t2, t3, t4, t5, t6, t7, t8, t9, t10, t11, t12, t13, t14⟩ := ihd (i + 1) (by omega) g1 ρ1 b1 σ1 r4 r5 r6 (fun q hq => by rw [n1 q hq, if_neg (by omega)]) (fun t ht => n2 t (by omega)) f' (by omega)
        have hs : s1 + s2 ≤ (d + 1 + 1) * 13 ^ l := by rw [Nat.succ_mul (d + 1)]; omega
        have hdc : dc2 + dc1 ≤ (d + 1 + 1) * (1 + gc_ l) := by rw [Nat.succ_mul (d + 1)]; omega
        have hds : ds2 + ds1 ≤ (d + 1 + 1) * (16 + gs_ l) := by rw [Nat.succ_mul (d + 1)]; omega
        refine ⟨g2, ρ2, dc2 + dc1, ds2 + ds1, σ2, b2, fl2, s1 + s2, ?_, r2.trans t2, hs, t4, t5, t6, r7.trans t7 (fun q hq k => by rw [r8 q hq] at k; exact k), r8.trans t8 r7.z, r9.trans t9 (fun _ k => k) (fun _ k => k), t10, t11, t12, hdc, hds⟩
        rw [la_step (b := (nI (i + 1), g1)) r1, t1, e_bp]
    obtain ⟨g', ρ', dc, ds, σ', b', fl, s, r1, r2, r3, r4, r5, r6, r7, r8, r9, r10, r11, r12, r13, r14⟩ := inner (ps.length - (fr + (l + 1))) fr (by omega) g ρ b σ hG hK hL hN hT fu_ (by unfold fu_; omega)
    have hd : ps.length - (fr + (l + 1)) + 1 ≤ 13 := by omega
    refine ⟨g', ρ', dc, ds, σ', b', fl, s, ?_, r2, ?_, r4, r5, r6, r7, r8, r9, r10, r11, r12, ?_, ?_⟩
    · show X12_go_b (X12_go_r nf') c9 (nI fr) (nI (l + 1)) g = _
      unfold X12_go_b
      rw [if_neg (nI_ne0 (by omega) (by omega)), r1, e_oa, e_b0]
    · rw [Nat.pow_succ, Nat.mul_comm]
      exact Nat.le_trans r3 (Nat.mul_le_mul_right _ hd)
    · exact Nat.le_trans r13 (Nat.mul_le_mul_right _ hd)
    · exact Nat.le_trans r14 (Nat.mul_le_mul_right _ hd)
