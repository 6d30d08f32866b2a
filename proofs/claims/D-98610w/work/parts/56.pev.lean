/-! LAWS: a form in the heap and its code in the array reckon alike (own work) -/
set_option maxRecDepth 100000
def CodeAt (A : Nat → Int32) (k : Nat) (c : List Int32) : Prop := ∀ i v, c[i]? = some v → A (k + i) = v
theorem CodeAt.left {A : Nat → Int32} {k : Nat} {c d : List Int32} (h : CodeAt A k (c ++ d)) : CodeAt A k c := fun i v hv => by
  have hi := (List.getElem?_eq_some_iff.mp hv).1
  exact h i v (by rw [List.getElem?_append_left hi]; exact hv)
theorem CodeAt.right {A : Nat → Int32} {k : Nat} {c d : List Int32} (h : CodeAt A k (c ++ d)) : CodeAt A (k + c.length) d := fun i v hv => by
  rw [Nat.add_assoc]
  exact h (c.length + i) v (by rw [List.getElem?_append_right (by omega), Nat.add_sub_cancel_left]; exact hv)
theorem CodeAt.one {A : Nat → Int32} {k : Nat} {v : Int32} {d : List Int32} (h : CodeAt A k (v :: d)) : A k = v := h 0 v rfl
theorem CodeAt.tail {A : Nat → Int32} {k : Nat} {v : Int32} {d : List Int32} (h : CodeAt A k (v :: d)) : CodeAt A (k + 1) d := fun i w hw => by
  rw [Nat.add_assoc, Nat.add_comm 1 i]
  exact h (i + 1) w hw
/-- a StringBuilder that holds the signs ss -/
def SbP (g : GS) (ρ : Nat → Nat) (r b : Nat) (ss : List Int32) : Prop :=
  gK g b = 13 ∧ ρ b = r ∧ b < gz g ∧ gI g b 1 = 0 ∧ gI g b 3 = nI ss.length ∧ ∃ v, gR g b 0 = v + 1 ∧ v < gz g ∧ gK g v = 101 ∧ ρ v = r ∧ ss.length ≤ gN g v ∧ gN g v ≤ 5000 ∧ ∀ i s, ss[i]? = some s → gI g v i = s
theorem SbP.to {W : Nat → Prop} {g g' : GS} {ρ ρ' : Nat → Nat} {r b : Nat} {ss : List Int32} (h : SbP g ρ r b ss) (hF : Fr W g g') (hA : ∀ q, q < gz g → ρ q = r → ρ' q = r) (hW : ∀ q, q < gz g → ρ q = r → ¬ W q) : SbP g' ρ' r b ss := by
  obtain ⟨h1, h2, h3, h4, h5, v, h6, h7, h8, h9, h10, h11, h12⟩ := h
  have hb := hW b h3 h2
  have hv := hW v h7 h9
  exact ⟨by rw [hF.K h3, h1], hA b h3 h2, hF.lt h3, by rw [hF.I h3 hb, h4], by rw [hF.I h3 hb, h5], v, by rw [hF.R h3 hb, h6], hF.lt h7, by rw [hF.K h7, h8], hA v h7 h9, by rw [hF.N h7]; exact h10, by rw [hF.N h7]; exact h11, fun i s hs => by rw [hF.I h7 hv]; exact h12 i s hs⟩
theorem SbP.re {g : GS} {ρ ρ' : Nat → Nat} {r r' b : Nat} {ss : List Int32} (h : SbP g ρ r b ss) (h1 : ∀ q, q < gz g → ρ q = r → ρ' q = r') : SbP g ρ' r' b ss := by
  obtain ⟨k1, k2, k3, k4, k5, v, k6, k7, k8, k9, k10⟩ := h
  exact ⟨k1, h1 b k3 k2, k3, k4, k5, v, k6, k7, k8, h1 v k7 k9, k10⟩
theorem J14_charAt_l {g : GS} {ρ : Nat → Nat} {r b i : Nat} {ss : List Int32} {s : Int32} (h : SbP g ρ r b ss) (hS : ∃ d, gS g 5 = d + 1) (hs : ss[i]? = some s) (hok : okS s) : J14_charAt b (nI i) g = some s := by
  have hi := (List.getElem?_eq_some_iff.mp hs).1
  obtain ⟨h1, h2, h3, h4, h5, v, h6, h7, h8, h9, h10, h11, h12⟩ := h
  obtain ⟨d, hd⟩ := hS
  have hj : jmin_ (nI ss.length) (Int32.ofNat (gN g v) >>> ((0 : Int32) &&& 31)) = nI ss.length := by
    have e : Int32.ofNat (gN g v) >>> ((0 : Int32) &&& 31) = nI (gN g v) := by
      rw [show ((0 : Int32) &&& 31) = 0 from rfl, Int32.shiftRight_zero]; rfl
    rw [e, jmin_l (by omega) (by omega), Nat.min_eq_left h10]
  unfold J14_charAt J13_charAt J8_checkIndex J11_checkIndex
  rw [e_wk h1, e_wk h1, h6, e_nn, e_rk (by rw [h8]), h4, h5, hj, hd, e_nn, if_neg (nI_pos (by omega)), if_pos (nI_lt hi (by omega)), e_ob, e_ob, if_pos rfl, e_inN (by omega) (by omega), nI_clamp (by omega), e_ob, h12 i s hs]
  rcases hok with rfl | rfl | rfl | rfl | rfl | rfl | rfl | rfl <;> rfl
/-- the form b, all of whose cells have role 0, has the code c (nm: what the values' names are) -/
def FL (nm : List Int32) (g : GS) (ρ : Nat → Nat) : Nat → Nat → List Int32 → Prop
  | 0, _, _ => False
  | n + 1, b, c => ρ b = 0 ∧ b < gz g ∧
    ((gK g b = 7 ∧ c = [1, gI g b 0]) ∨
     (gK g b = 8 ∧ ∃ w v, gI g b 0 = nI w ∧ nm[w]? = some v ∧ c = [2, v]) ∨
     (gK g b = 9 ∧ ∃ b' c', gR g b 0 = b' + 1 ∧ FL nm g ρ n b' c' ∧ c = c' ++ [3]) ∨
     (gK g b = 6 ∧ ∃ l sb x0 c0, ∃ ps : List (Nat × List Int32 × Int32), gR g b 0 = l + 1 ∧ LiP g ρ 0 l (x0 :: ps.map (fun p => p.1)) ∧ gR g b 1 = sb + 1 ∧ SbP g ρ 0 sb (ps.map (fun p => p.2.2)) ∧ FL nm g ρ n x0 c0 ∧ (∀ p ∈ ps, FL nm g ρ n p.1 p.2.1 ∧ okS p.2.2) ∧ c = c0 ++ (ps.map (fun p => p.2.1 ++ [opc p.2.2])).flatten))
theorem FL.kind {nm : List Int32} {g : GS} {ρ : Nat → Nat} {n b : Nat} {c : List Int32} (h : FL nm g ρ n b c) : g_isF (gK g b) = true ∧ g_sto (gK g b % 1000) = true ∧ b < gz g ∧ ρ b = 0 ∧ (gK g b = 6 ∨ gK g b = 7 ∨ gK g b = 8 ∨ gK g b = 9) := by
  cases n with
  | zero => exact h.elim
  | succ n =>
    obtain ⟨h0, h1, h⟩ := h
    rcases h with ⟨k, -⟩ | ⟨k, -⟩ | ⟨k, -⟩ | ⟨k, -⟩ <;> rw [k] <;> exact ⟨rfl, rfl, h1, h0, by decide⟩
theorem FL.len {nm : List Int32} {g : GS} {ρ : Nat → Nat} : ∀ {n b : Nat} {c : List Int32}, FL nm g ρ n b c → 2 ≤ c.length := by
  intro n
  induction n with
  | zero => intro b c h; exact h.elim
  | succ n ih =>
    intro b c h
    obtain ⟨h0, h1, h⟩ := h
    rcases h with ⟨_, k⟩ | ⟨_, w, v, _, _, k⟩ | ⟨_, b', c', _, k, k2⟩ | ⟨_, l, sb, x0, c0, ps, _, _, _, _, k, _, k2⟩
    · rw [k]; exact Nat.le_refl _
    · rw [k]; exact Nat.le_refl _
    · rw [k2, List.length_append]
      have := ih k
      omega
    · rw [k2, List.length_append]
      have := ih k
      omega
theorem FL.mono {nm : List Int32} {g : GS} {ρ : Nat → Nat} : ∀ {n b : Nat} {c : List Int32}, FL nm g ρ n b c → FL nm g ρ (n + 1) b c := by
  intro n
  induction n with
  | zero => intro b c h; exact h.elim
  | succ n ih =>
    intro b c h
    obtain ⟨h0, h1, h⟩ := h
    refine ⟨h0, h1, ?_⟩
    rcases h with k | k | ⟨k0, b', c', k1, k, k2⟩ | ⟨k0, l, sb, x0, c0, ps, k1, k2, k3, k4, k5, k6, k7⟩
    · exact Or.inl k
    · exact Or.inr (Or.inl k)
    · exact Or.inr (Or.inr (Or.inl ⟨k0, b', c', k1, ih k, k2⟩))
    · exact Or.inr (Or.inr (Or.inr ⟨k0, l, sb, x0, c0, ps, k1, k2, k3, k4, ih k5, fun p hp => ⟨ih (k6 p hp).1, (k6 p hp).2⟩, k7⟩))
theorem FL.le {nm : List Int32} {g : GS} {ρ : Nat → Nat} {n n' b : Nat} {c : List Int32} (h : FL nm g ρ n b c) (hn : n ≤ n') : FL nm g ρ n' b c := by
  obtain ⟨d, rfl⟩ := Nat.exists_eq_add_of_le hn
  clear hn
  induction d with
  | zero => exact h
  | succ d ih => exact ih.mono
theorem FL.to {nm : List Int32} {W : Nat → Prop} {g g' : GS} {ρ ρ' : Nat → Nat} (hF : Fr W g g') (hA : ∀ q, q < gz g → ρ q = 0 → ρ' q = 0) (hW : ∀ q, q < gz g → ρ q = 0 → ¬ W q) : ∀ {n b : Nat} {c : List Int32}, FL nm g ρ n b c → FL nm g' ρ' n b c := by
  intro n
  induction n with
  | zero => intro b c h; exact h.elim
  | succ n ih =>
    intro b c h
    obtain ⟨h0, h1, h⟩ := h
    have hb := hW b h1 h0
    refine ⟨hA b h1 h0, hF.lt h1, ?_⟩
    rw [hF.K h1, hF.I h1 hb, hF.R h1 hb, hF.R h1 hb]
    rcases h with k | k | ⟨k0, b', c', k1, k, k2⟩ | ⟨k0, l, sb, x0, c0, ps, k1, k2, k3, k4, k5, k6, k7⟩
    · exact Or.inl k
    · exact Or.inr (Or.inl k)
    · exact Or.inr (Or.inr (Or.inl ⟨k0, b', c', k1, ih k, k2⟩))
    · refine Or.inr (Or.inr (Or.inr ⟨k0, l, sb, x0, c0, ps, k1, ?_, k3, ?_, ih k5, fun p hp => ⟨ih (k6 p hp).1, (k6 p hp).2⟩, k7⟩))
      · exact k2.to' hF (fun q hq k => by rw [hA q hq (k.elim id id), k.elim id id]) (fun q hq k => hW q hq (k.elim id id))
      · exact k4.to hF hA hW
/-! reckoning -/
def rk_b : Int32 × Int32 × MS → Option ((Int32 × Int32 × MS) ⊕ MS) := fun a => X4_reckons_b4 a.1 a.2.1 a.2.2
/-- the code c, wherever it lies, leaves r on the pile -/
def EvM (T : Nat → Int32) (c : List Int32) (r : Int32) : Prop :=
  ∀ (σ : MS) (k m : Nat), CodeAt (m_A σ 13) k c → k + c.length ≤ 4200 → 2 * m + c.length ≤ 1900 → (∀ u, u < 8 → m_A σ 57 u = T u) → ∃ i σ', i ≤ c.length ∧ LS_ rk_b i (nI m, nI k, σ) (nI (m + 1), nI (k + c.length), σ') ∧ Mf [] [58] σ σ' ∧ m_A σ' 58 m = r ∧ ∀ q, q < m → m_A σ' 58 q = m_A σ 58 q
theorem nI_m1 (n : Nat) : nI (n + 1) + (-1) = nI n := by
  rw [nI_succ, Int32.add_assoc]
  show nI n + (1 + -1) = nI n
  rw [show ((1 : Int32) + -1) = 0 from by decide, Int32.add_zero]
theorem rk_push {σ : MS} {k m : Nat} (hk : k + 1 < 4200) (hm : m < 950) (h1 : m_A σ 13 k = 1) : rk_b (nI m, nI k, σ) = some (.inl (nI (m + 1), nI (k + 2), s_A σ 58 m (m_A σ 13 (k + 1)))) := by
  show X4_reckons_b4 (nI m) (nI k) σ = _
  unfold X4_reckons_b4 X4_reckons_j36 X4_reckons_j67 X4_reckons_j140
  rw [e_inN (by omega) (by omega), nI_clamp (by omega), h1, if_neg (by decide), e_inN (by omega) (by omega), if_pos rfl, nI_1, if_pos rfl, e_inN (by omega) (by omega), nI_clamp (by omega), e_inN (by omega) (by omega), nI_clamp (by omega), nI_1, nI_1]
theorem rk_val {σ : MS} {k m u : Nat} (hk : k + 1 < 4200) (hm : m < 950) (h1 : m_A σ 13 k = 2) (h2 : m_A σ 13 (k + 1) = nI u) (hu : u < 8) : rk_b (nI m, nI k, σ) = some (.inl (nI (m + 1), nI (k + 2), s_A σ 58 m (m_A σ 57 u))) := by
  show X4_reckons_b4 (nI m) (nI k) σ = _
  unfold X4_reckons_b4 X4_reckons_j36 X4_reckons_j67 X4_reckons_j140
  rw [e_inN (by omega) (by omega), nI_clamp (by omega), h1, if_neg (by decide), e_inN (by omega) (by omega), if_neg (by decide), if_pos rfl, nI_1, if_neg (by decide), e_inN (by omega) (by omega), nI_clamp (by omega), h2, e_inN (by omega) (by omega), nI_clamp (by omega), e_inN (by omega) (by omega), nI_clamp (by omega), nI_1, nI_1]
theorem rk_no {σ : MS} {k m : Nat} (hk : k < 4200) (hm : m < 950) (h1 : m_A σ 13 k = 3) : rk_b (nI (m + 1), nI k, σ) = some (.inl (nI (m + 1), nI (k + 1), s_A σ 58 m (if m_A σ 58 m = 0 then 1 else 0))) := by
  show X4_reckons_b4 (nI (m + 1)) (nI k) σ = _
  unfold X4_reckons_b4 X4_reckons_j106 X4_reckons_j140
  rw [e_inN (by omega) (by omega), nI_clamp (by omega), h1, if_neg (by decide), e_inN (by omega) (by omega), if_neg (by decide), if_neg (by decide), if_pos rfl, nI_pred, e_inN (by omega) (by omega), nI_clamp (by omega), nI_1]
  split <;> rw [e_inN (by omega) (by omega)]
theorem rk_op {σ : MS} {k m : Nat} {s v : Int32} (hk : k < 4200) (hm : m + 1 < 950) (hs : okS s) (h1 : m_A σ 13 k = opc s) (hv : X4_works (opc s) (m_A σ 58 m) (m_A σ 58 (m + 1)) = some v) : rk_b (nI (m + 2), nI k, σ) = some (.inl (nI (m + 1), nI (k + 1), s_A σ 58 m v)) := by
  show X4_reckons_b4 (nI (m + 2)) (nI k) σ = _
  have hne : opc s ≠ 0 ∧ opc s ≠ 1 ∧ opc s ≠ 2 ∧ opc s ≠ 3 := by
    rcases hs with rfl | rfl | rfl | rfl | rfl | rfl | rfl | rfl <;> decide
  unfold X4_reckons_b4 X4_reckons_j140
  rw [e_inN (by omega) (by omega), nI_clamp (by omega), h1, if_neg hne.1, e_inN (by omega) (by omega), if_neg hne.2.1, if_neg hne.2.2.1, if_neg hne.2.2.2, nI_m1 (m + 1), nI_pred, e_inN (by omega) (by omega), e_inN (by omega) (by omega), nI_clamp (by omega), nI_clamp (by omega), hv, e_ob, e_inN (by omega) (by omega), nI_1]
/-- the last sign of a code reckons the two uppermost -/
theorem EvM.op {T : Nat → Int32} {c : List Int32} {r : Int32} (h : EvM T c r) {s : Int32} (hs : okS s) {σ : MS} {k m : Nat} (hC : CodeAt (m_A σ 13) k (c ++ [opc s])) (hk : k + c.length + 1 ≤ 4200) (hm : 2 * (m + 1) + c.length ≤ 1900) (hT : ∀ u, u < 8 → m_A σ 57 u = T u) {v : Int32} (hv : X4_works (opc s) (m_A σ 58 m) r = some v) (h2 : 2 ≤ c.length) :
    ∃ i σ', i ≤ c.length + 1 ∧ LS_ rk_b i (nI (m + 1), nI k, σ) (nI (m + 1), nI (k + c.length + 1), σ') ∧ Mf [] [58] σ σ' ∧ m_A σ' 58 m = v ∧ ∀ q, q < m → m_A σ' 58 q = m_A σ 58 q := by
  obtain ⟨i, σ1, a1, a2, a3, a4, a5⟩ := h σ k (m + 1) hC.left (by omega) hm hT
  have hb := rk_op (σ := σ1) (k := k + c.length) (m := m) (s := s) (v := v) (by omega) (by omega) hs (by rw [a3.A (by decide)]; exact hC.right.one) (by rw [a4, a5 m (by omega)]; exact hv)
  refine ⟨i + 1, s_A σ1 58 m v, by omega, a2.trans (LS_.one hb), a3.trans (Mf.sA (by decide)) (fun _ k => k) (fun _ k => k), ?_, fun q hq => ?_⟩
  · rw [rA_sA, if_pos ⟨rfl, rfl⟩]
  · rw [rA_sA, if_neg (by rintro ⟨-, k⟩; omega), a5 q (by omega)]
theorem X10_of_l {g : GS} {n b b' v : Nat} {r : Int32} (hk : gK g b = 9) (hR : gR g b 0 = b' + 1) (h : Fof_ n b' v g = some r) : X10_of (Fof_ n) b v g = some (if r = 0 then 1 else 0) := by
  unfold X10_of
  rw [e_wk hk, hR, e_nn, h, e_ob]
  split <;> rfl
/-- a form's value: in the heap and of its code -/
theorem ev_l {nm : List Int32} {g : GS} {ρ : Nat → Nat} {v : Nat} {T : Nat → Int32} (hS : ∃ d, gS g 5 = d + 1) (hv : gK g v % 1000 = 100) (hN : nm.length ≤ gN g v ∧ gN g v ≤ 2000) (hnm : ∀ w x, nm[w]? = some x → ∃ u, u < 8 ∧ x = nI u ∧ gI g v w = T u) :
    ∀ n b c, FL nm g ρ n b c → ∃ r, Fof_ n b v g = some r ∧ EvM T c r := by
  intro n
  induction n with
  | zero => intro b c h; exact h.elim
  | succ n ih =>
    intro b c h
    obtain ⟨h0, h1, h⟩ := h
    rcases h with ⟨k, hc⟩ | ⟨k, w, x, kw, kx, hc⟩ | ⟨k, b', c', kb, kf, hc⟩ | ⟨k, l, sb, x0, c0, ps, k1, k2, k3, k4, k5, k6, hc⟩
    · refine ⟨gI g b 0, ?_, ?_⟩
      · unfold Fof_
        rw [if_neg (by omega), if_pos k]
        unfold X8_of
        rw [e_wk k]
      · subst hc
        intro σ kk m hC hk hm hT
        have hk' : kk + 2 ≤ 4200 := hk
        have hm' : 2 * m + 2 ≤ 1900 := hm
        have e1 : m_A σ 13 (kk + 1) = gI g b 0 := hC.tail.one
        refine ⟨1, _, Nat.le_succ _, LS_.one (rk_push (by omega) (by omega) hC.one), Mf.sA (by decide), ?_, fun q hq => ?_⟩
        · rw [rA_sA, if_pos ⟨rfl, rfl⟩, e1]
        · rw [rA_sA, if_neg (by rintro ⟨-, k⟩; omega)]
    · obtain ⟨u, u1, u2, u3⟩ := hnm w x kx
      have hw := (List.getElem?_eq_some_iff.mp kx).1
      refine ⟨T u, ?_, ?_⟩
      · unfold Fof_
        rw [if_neg (by omega), if_neg (by omega), if_pos k]
        unfold X9_of
        rw [e_wk k, e_rk hv, kw, e_inN (by omega) (by omega), nI_clamp (by omega), u3]
      · subst hc
        intro σ kk m hC hk hm hT
        have hk' : kk + 2 ≤ 4200 := hk
        have hm' : 2 * m + 2 ≤ 1900 := hm
        have e1 : m_A σ 13 (kk + 1) = nI u := by rw [← u2]; exact hC.tail.one
        refine ⟨1, _, Nat.le_succ _, LS_.one (rk_val (by omega) (by omega) hC.one e1 u1), Mf.sA (by decide), ?_, fun q hq => ?_⟩
        · rw [rA_sA, if_pos ⟨rfl, rfl⟩, hT u u1]
        · rw [rA_sA, if_neg (by rintro ⟨-, k⟩; omega)]
    · obtain ⟨r, r1, r2⟩ := ih b' c' kf
      have hl := kf.len
      refine ⟨if r = 0 then 1 else 0, ?_, ?_⟩
      · unfold Fof_
        rw [if_neg (by omega), if_neg (by omega), if_neg (by omega), if_pos k, X10_of_l k kb r1]
      · subst hc
        intro σ kk m hC hk hm hT
        rw [List.length_append] at hk hm
        have hk' : kk + (c'.length + 1) ≤ 4200 := hk
        have hm' : 2 * m + (c'.length + 1) ≤ 1900 := hm
        obtain ⟨i, σ1, a1, a2, a3, a4, a5⟩ := r2 σ kk m hC.left (by omega) (by omega) hT
        have hb := rk_no (σ := σ1) (k := kk + c'.length) (m := m) (by omega) (by omega) (by rw [a3.A (by decide)]; exact hC.right.one)
        refine ⟨i + 1, s_A σ1 58 m (if m_A σ1 58 m = 0 then 1 else 0), by rw [List.length_append]; show i + 1 ≤ c'.length + 1; omega, ?_, a3.trans (Mf.sA (by decide)) (fun _ k => k) (fun _ k => k), ?_, fun q hq => ?_⟩
        · have := a2.trans (LS_.one hb)
          rw [List.length_append, ← Nat.add_assoc]
          exact this
        · rw [rA_sA, if_pos ⟨rfl, rfl⟩, a4]
        · rw [rA_sA, if_neg (by rintro ⟨-, k⟩; omega), a5 q hq]
    · obtain ⟨r0, r1, r2⟩ := ih x0 c0 k5
      have hl0 := k5.len
      have hlen := k2.len
      rw [List.length_cons, List.length_map] at hlen
      have suff : ∀ (rest : List (Nat × List Int32 × Int32)) (j : Nat) (a : Int32), ps.drop j = rest → j ≤ ps.length → ∃ r, (∀ fuel, rest.length < fuel → lp_ (fun a : Int32 × Int32 => X7_of_b22 (Fof_ n) b v g a.1 a.2) fuel (a, nI (j + 1)) = some r) ∧
          ∀ (σ : MS) (k m : Nat), CodeAt (m_A σ 13) k (rest.map (fun p => p.2.1 ++ [opc p.2.2])).flatten → k + (rest.map (fun p => p.2.1 ++ [opc p.2.2])).flatten.length ≤ 4200 → 2 * (m + 1) + (rest.map (fun p => p.2.1 ++ [opc p.2.2])).flatten.length ≤ 1900 → (∀ u, u < 8 → m_A σ 57 u = T u) → m_A σ 58 m = a →
            ∃ i σ', i ≤ (rest.map (fun p => p.2.1 ++ [opc p.2.2])).flatten.length ∧ LS_ rk_b i (nI (m + 1), nI k, σ) (nI (m + 1), nI (k + (rest.map (fun p => p.2.1 ++ [opc p.2.2])).flatten.length), σ') ∧ Mf [] [58] σ σ' ∧ m_A σ' 58 m = r ∧ ∀ q, q < m → m_A σ' 58 q = m_A σ 58 q := by
        intro rest
        induction rest with
        | nil =>
          intro j a hd hj
          have hjl : j = ps.length := by
            have := congrArg List.length hd
            rw [List.length_drop] at this
            simp at this
            omega
          refine ⟨a, fun fuel hf => ?_, fun σ k m _ _ _ _ ha => ⟨0, σ, Nat.le_refl _, LS_.rf, Mf.rf, ha, fun _ _ => rfl⟩⟩
          obtain ⟨f, rfl⟩ : ∃ f, fuel = f + 1 := ⟨fuel - 1, by simp at hf; omega⟩
          apply lp_end
          show X7_of_b22 (Fof_ n) b v g a (nI (j + 1)) = _
          unfold X7_of_b22
          rw [e_wk k, k1, e_nn, e_wk k2.K, J2_size_l k2, e_ob, List.length_cons, List.length_map, if_pos (nI_le (by omega) (by omega))]
        | cons p rest ihr =>
          intro j a hd hj
          have hjl : j < ps.length := by
            have := congrArg List.length hd
            rw [List.length_drop] at this
            simp at this
            omega
          have hp : ps[j]? = some p := by
            have h9 := List.getElem?_drop (xs := ps) (i := j) (j := 0)
            rw [hd] at h9
            exact h9.symm
          have hd' : ps.drop (j + 1) = rest := by
            have h9 : (ps.drop j).drop 1 = rest := by rw [hd]; rfl
            rw [List.drop_drop] at h9
            exact h9
          have hmem : p ∈ ps := List.mem_of_getElem? hp
          obtain ⟨q1, q2⟩ := k6 p hmem
          obtain ⟨rp, s1, s2⟩ := ih p.1 p.2.1 q1
          obtain ⟨va, b1, b2⟩ := by_works (s := p.2.2) (a := a) (b := rp) q2
          obtain ⟨rr, c1, c2⟩ := ihr (j + 1) va hd' (by omega)
          have hlp := q1.len
          have hg1 : (x0 :: ps.map (fun p => p.1))[j + 1]? = some p.1 := by
            rw [List.getElem?_cons_succ, List.getElem?_map, hp]; rfl
          have hg2 : (ps.map (fun p => p.2.2))[j]? = some p.2.2 := by rw [List.getElem?_map, hp]; rfl
          refine ⟨rr, fun fuel hf => ?_, fun σ kk m hC hk hm hT ha => ?_⟩
          · obtain ⟨f, rfl⟩ : ∃ f, fuel = f + 1 := ⟨fuel - 1, by omega⟩
            rw [List.length_cons] at hf
            have hb : (fun a : Int32 × Int32 => X7_of_b22 (Fof_ n) b v g a.1 a.2) (a, nI (j + 1)) = some (.inl (va, nI (j + 2))) := by
              show X7_of_b22 (Fof_ n) b v g a (nI (j + 1)) = _
              unfold X7_of_b22
              rw [e_wk k, k1, e_nn, e_wk k2.K, J2_size_l k2, e_ob, List.length_cons, List.length_map, if_neg (nI_ge (by omega) (by omega)), k3, e_nn, e_wk k4.1, nI_pred, J14_charAt_l k4 hS hg2 q2, e_ob, e_nn, e_wk k2.K, J2_get_l k2 hg1, e_ob, q1.kind.1, e_gd, s1, e_ob, b1, e_ob, nI_1]
            rw [lp_next hb]
            exact c1 f (by omega)
          · rw [List.map_cons, List.flatten_cons] at hC hk hm ⊢
            rw [List.length_append, List.length_append] at hk hm
            have e1 : [opc p.2.2].length = 1 := rfl
            rw [e1] at hk hm
            obtain ⟨i1, σ1, d1, d2, d3, d4, d5⟩ := s2.op q2 (σ := σ) (k := kk) (m := m) hC.left (by omega) (by omega) hT (by rw [ha]; exact b2) hlp
            have hC2 := hC.right
            rw [List.length_append, e1, ← Nat.add_assoc] at hC2
            obtain ⟨i2, σ2, f1, f2, f3, f4, f5⟩ := c2 σ1 (kk + p.2.1.length + 1) m (by rw [d3.Af (by decide)]; exact hC2) (by omega) (by omega) (fun u hu => by rw [d3.A (by decide)]; exact hT u hu) d4
            refine ⟨i1 + i2, σ2, ?_, ?_, d3.trans f3 (fun _ k => k) (fun _ k => k), f4, fun q hq => by rw [f5 q hq, d5 q hq]⟩
            · rw [List.length_append, List.length_append, e1]
              omega
            · have := d2.trans f2
              rw [List.length_append, List.length_append, e1]
              rw [show kk + (p.2.1.length + 1 + (rest.map (fun p => p.2.1 ++ [opc p.2.2])).flatten.length) = kk + p.2.1.length + 1 + (rest.map (fun p => p.2.1 ++ [opc p.2.2])).flatten.length by omega]
              exact this
      obtain ⟨r, t1, t2⟩ := suff ps 0 r0 rfl (Nat.zero_le _)
      refine ⟨r, ?_, ?_⟩
      · unfold Fof_
        rw [if_pos k]
        unfold X7_of
        rw [e_wk k, k1, e_nn, e_wk k2.K, show (0 : Int32) = nI 0 from rfl, J2_get_l k2 (i := 0) rfl, e_ob, k5.kind.1, e_gd, r1, e_ob, show (1 : Int32) = nI (0 + 1) from rfl, t1 fu_ (by unfold fu_; omega), e_ob]
      · subst hc
        intro σ kk m hC hk hm hT
        rw [List.length_append] at hk hm
        obtain ⟨i1, σ1, d1, d2, d3, d4, d5⟩ := r2 σ kk m hC.left (by omega) (by omega) hT
        obtain ⟨i2, σ2, f1, f2, f3, f4, f5⟩ := t2 σ1 (kk + c0.length) m (by rw [d3.Af (by decide)]; exact hC.right) (by omega) (by omega) (fun u hu => by rw [d3.A (by decide)]; exact hT u hu) d4
        refine ⟨i1 + i2, σ2, by rw [List.length_append]; omega, ?_, d3.trans f3 (fun _ k => k) (fun _ k => k), f4, fun q hq => by rw [f5 q hq, d5 q hq]⟩
        have := d2.trans f2
        rw [List.length_append, ← Nat.add_assoc]
        exact this
